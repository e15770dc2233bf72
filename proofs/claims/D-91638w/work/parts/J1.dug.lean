/-! PLAIN: what is dug, as one number -/
def pSt (f : Nat → Nat) : Nat → Nat
  | 0 => 0
  | k + 1 => pSt f k + 5 ^ k * f k
theorem p5_le {k : Nat} (h : k ≤ 6) : 1 ≤ 5 ^ k ∧ 5 ^ k ≤ 15625 := ⟨Nat.pow_pos (by decide), Nat.pow_le_pow_right (n := 5) (by decide) h⟩
theorem pSt_lt {f : Nat → Nat} : ∀ w, (∀ k, k < w → f k ≤ 4) → pSt f w < 5 ^ w := by
  intro w
  induction w with
  | zero => intro _; exact Nat.one_pos
  | succ w ih =>
    intro h
    have h1 := ih (fun k hk => h k (by omega))
    have h2 := h w (by omega)
    have h3 : 5 ^ w * f w ≤ 5 ^ w * 4 := Nat.mul_le_mul_left _ h2
    show pSt f w + 5 ^ w * f w < 5 ^ (w + 1)
    rw [Nat.pow_succ]
    omega
theorem pSt_dig {f : Nat → Nat} {k : Nat} : ∀ w, (∀ k, k < w → f k ≤ 4) → k < w → pSt f w / 5 ^ k % 5 = f k := by
  intro w
  induction w with
  | zero => intro _ h; omega
  | succ w ih =>
    intro h hk
    show (pSt f w + 5 ^ w * f w) / 5 ^ k % 5 = f k
    by_cases q : k = w
    · subst q
      have h1 := pSt_lt k (fun j hj => h j (by omega))
      have h2 := h k (by omega)
      rw [Nat.add_mul_div_left _ _ (Nat.pow_pos (by decide)), Nat.div_eq_of_lt h1, Nat.zero_add]
      exact Nat.mod_eq_of_lt (by omega)
    · obtain ⟨j, hj⟩ : ∃ j, w = k + (j + 1) := ⟨w - k - 1, by omega⟩
      have e : 5 ^ w * f w = 5 ^ k * (5 * (5 ^ j * f w)) := by
        rw [hj, Nat.pow_add, Nat.pow_succ, Nat.mul_comm (5 ^ j) 5, Nat.mul_assoc, Nat.mul_assoc]
      rw [e, Nat.add_mul_div_left _ _ (Nat.pow_pos (by decide)), Nat.add_mul_mod_self_left]
      exact ih (fun j hj => h j (by omega)) (by omega)
theorem pCl_le {x : Int} : pCl x ≤ 4 := by
  unfold pCl
  split
  · omega
  · split <;> omega
theorem pNx_st {e o : Int} {wl s : Nat} : ∀ w, pNx e o wl s w = pSt (fun k => pCl (((s / 5 ^ k % 5 : Nat) : Int) + (if k = wl then o else e))) w := by
  intro w
  induction w with
  | zero => rfl
  | succ w ih =>
    show pNx e o wl s w + _ = pSt _ w + _
    rw [ih]
theorem pNx_lt {e o : Int} {wl s w : Nat} : pNx e o wl s w < 5 ^ w := by
  rw [pNx_st]
  exact pSt_lt w (fun k _ => pCl_le)
theorem p_dv {s k : Nat} : s / 5 ^ k / 5 = s / 5 ^ (k + 1) := by
  rw [Nat.pow_succ, Nat.div_div_eq_div_mul]
theorem p_step {s k : Nat} : s / 5 ^ k = 5 * (s / 5 ^ (k + 1)) + s / 5 ^ k % 5 := by
  rw [← p_dv]
  omega
theorem i_md5 {s : Nat} (h : s ≤ 100000) : iI (s : Int) - iI (s : Int) / 5 * 5 = iI ((s % 5 : Nat) : Int) := by
  rw [show (5 : Int32) = iI 5 from rfl, i_div ⟨by omega, by omega⟩ ⟨by decide, by decide⟩ (Or.inl (by decide)), i_mul, i_sub]
  congr 1
  rw [Int.tdiv_eq_ediv_of_nonneg (by omega)]
  omega
theorem i_dv5 {s : Nat} (h : s ≤ 100000) : iI (s : Int) / 5 = iI ((s / 5 : Nat) : Int) := by
  rw [show (5 : Int32) = iI 5 from rfl, i_div ⟨by omega, by omega⟩ ⟨by decide, by decide⟩ (Or.inl (by decide))]
  congr 1
/-- both: the number that is cut to 0 .. 4 -/
theorem p_clm {x : Int} (h : -100 ≤ x ∧ x ≤ 100) {N b : Nat} {g : uEnv} {u : UH} : ∃ y : Int, f_J9_min N b g u 4 (iI x) = some (iI y, u) ∧ f_J9_max N b g u 0 (iI y) = some (iI ((pCl x : Nat) : Int), u) := by
  refine ⟨if x < 4 then x else 4, ?_, ?_⟩
  · rw [show (4 : Int32) = iI 4 from rfl, j_min (by omega) (by omega) (by omega) (by omega)]
  · rw [j0, j_max (by omega) (by omega) (by split <;> omega) (by split <;> omega)]
    congr 3
    unfold pCl
    by_cases h4 : x < 4
    · rw [if_pos h4]
      by_cases h0 : 0 < x
      · rw [if_pos h0, if_neg (show ¬ x < 0 by omega), if_neg (show ¬ 4 < x by omega)]
        omega
      · rw [if_neg h0]
        by_cases h1 : x < 0
        · rw [if_pos h1]
          rfl
        · rw [if_neg h1, if_neg (show ¬ 4 < x by omega)]
          omega
    · rw [if_neg h4, if_pos (show (0 : Int) < 4 by decide), if_neg (show ¬ x < 0 by omega)]
      split <;> omega
theorem p_cl2 {x : Int} (h : -100 ≤ x ∧ x ≤ 100) {α : Type} (F : Int32 → α) : (if 0 ≤ iI x then if iI x ≤ 4 then F (iI x) else F 4 else F 0) = F (iI ((pCl x : Nat) : Int)) := by
  unfold pCl
  by_cases h0 : 0 ≤ x
  · rw [j0, p_le (by omega) (by omega) (by omega) (by omega) (by omega), if_neg (show ¬ x < 0 by omega)]
    by_cases h4 : x ≤ 4
    · rw [show (4 : Int32) = iI 4 from rfl, p_le (by omega) (by omega) (by omega) (by omega) (by omega), if_neg (show ¬ 4 < x by omega)]
      congr 2
      omega
    · rw [show (4 : Int32) = iI 4 from rfl, n_le (by omega) (by omega) (by omega) (by omega) (by omega), if_pos (show 4 < x by omega)]
      rfl
  · rw [j0, n_le (by omega) (by omega) (by omega) (by omega) (by omega), if_pos (show x < 0 by omega)]
    rfl
theorem m_behind {N : Nat} {σ : MS} {w s t wl : Nat} {e o : Int} (h24 : σ.1 24 = iI w) (hw : w ≤ 6) (ht : t < 6) (hwl : wl < 6) (h30 : σ.2.1 30 t = iI e) (h31 : σ.2.1 31 t = iI o) (he : -4 ≤ e ∧ e ≤ 4) (ho : -4 ≤ o ∧ o ≤ 4) (hs : s < 5 ^ w) (hN : 10 ≤ N) : f_behind N σ (iI s) (iI t) (iI wl) = some (iI ((pNx e o wl s w : Nat) : Int), σ) := by
  have p6 := (p5_le hw).2
  have lp : ∀ (m k : Nat), k ≤ w → w < k + m → f_behind_12 N m σ (iI t) (iI wl) (iI ((s / 5 ^ k : Nat) : Int)) (iI ((5 ^ k : Nat) : Int)) (iI ((pNx e o wl s k : Nat) : Int)) (iI k) = some (iI ((pNx e o wl s w : Nat) : Int), σ) := by
    intro m
    induction m with
    | zero => intro k h1 h2; omega
    | succ m ih =>
      intro k h1 h2
      rw [f_behind_12, h24]
      by_cases hk : k = w
      · subst hk
        rw [p_le (by omega) (by omega) (by omega) (by omega) (by omega)]
      · have pk := (p5_le (k := k) (by omega)).2
        have pk0 := (p5_le (k := k) (by omega)).1
        have sk : s / 5 ^ k ≤ s := Nat.div_le_self _ _
        have nk := pNx_lt (e := e) (o := o) (wl := wl) (s := s) (w := k)
        obtain ⟨t1, t2⟩ := t_ix (a := (t : Int)) (n := mLen 31) (k := t) rfl (by rw [show mLen 31 = 6 from rfl]; omega) (by rw [show mLen 31 = 6 from rfl]; omega)
        obtain ⟨t3, t4⟩ := t_ix (a := (t : Int)) (n := mLen 30) (k := t) rfl (by rw [show mLen 30 = 6 from rfl]; omega) (by rw [show mLen 30 = 6 from rfl]; omega)
        have ek : iI (k : Int) + 1 = iI ((k + 1 : Nat) : Int) := by
          rw [j1, i_add]
          rfl
        have e5 : iI ((5 ^ k : Nat) : Int) * 5 = iI ((5 ^ (k + 1) : Nat) : Int) := by
          rw [show (5 : Int32) = iI 5 from rfl, i_mul, Nat.pow_succ]
          rfl
        have go : ∀ z : Int, z = (if k = wl then o else e) → f_behind_46 N (f_behind_12 N m) σ (iI t) (iI wl) (iI ((s / 5 ^ k : Nat) : Int)) (iI ((5 ^ k : Nat) : Int)) (iI ((pNx e o wl s k : Nat) : Int)) (iI k) (iI z) (iI ((s / 5 ^ k : Nat) : Int) - iI ((s / 5 ^ k : Nat) : Int) / 5 * 5) = some (iI ((pNx e o wl s w : Nat) : Int), σ) := by
          intro z hz
          have zb : -4 ≤ z ∧ z ≤ 4 := by
            rw [hz]
            split <;> omega
          unfold f_behind_46
          rw [i_md5 (by omega), i_add, p_let, p_cl2 (by omega) (fun c => f_behind_74 N (f_behind_12 N m) σ (iI t) (iI wl) (iI ((s / 5 ^ k : Nat) : Int)) (iI ((5 ^ k : Nat) : Int)) (iI k) c (iI ((5 ^ k : Nat) : Int)) (iI ((pNx e o wl s k : Nat) : Int)))]
          unfold f_behind_74
          rw [i_mul, i_add, p_let, i_dv5 (by omega), p_let, e5, p_let, ek, p_let, p_dv]
          have := ih (k + 1) (by omega) (by omega)
          rw [← this]
          have q : ((pNx e o wl s k : Nat) : Int) + ((5 ^ k : Nat) : Int) * ((pCl (((s / 5 ^ k % 5 : Nat) : Int) + z) : Nat) : Int) = ((pNx e o wl s (k + 1) : Nat) : Int) := by
            rw [hz]
            show _ = ((pNx e o wl s k + 5 ^ k * pCl (((s / 5 ^ k % 5 : Nat) : Int) + (if k = wl then o else e)) : Nat) : Int)
            rw [Int.natCast_add, Int.natCast_mul]
          rw [q]
        rw [n_le (by omega) (by omega) (by omega) (by omega) (by omega)]
        by_cases hq : k = wl
        · rw [if_pos (show iI (k : Int) = iI (wl : Int) by rw [hq]), if_pos t1, p_let, t2, h31]
          exact go o (if_pos hq).symm
        · rw [if_neg (show ¬ iI (k : Int) = iI (wl : Int) by rw [j_eq (by omega) (by omega) (by omega) (by omega)]; omega), if_pos t3, p_let, t4, h30]
          exact go e (if_neg hq).symm
  have := lp N 0 (by omega) (by omega)
  unfold f_behind
  rw [Nat.pow_zero, Nat.div_one] at this
  exact this
theorem c_next {N b : Nat} {g : uEnv} {u : UH} {w s wl pa bo ta : Nat} {e o : Int} {ov nv r0 r1 r2 : Value} {cv : Value} {fs : List Value} (hp : u.2.2 pa = some (.inr (17, [.ref bo, ov]))) (hb : u.2.2 bo = some (.inr (3, r0 :: r1 :: r2 :: .int (iI w) :: fs))) (ha : u.2.2 ta = some (.inr (8, [nv, .int (iI e), .int (iI o), cv]))) (hw : w ≤ 6) (hwl : wl < 6) (he : -4 ≤ e ∧ e ≤ 4) (ho : -4 ≤ o ∧ o ≤ 4) (hs : s < 5 ^ w) (hN : 10 ≤ N) : f_X19_next N b g u pa (iI s) (some ta) (iI wl) = some (iI ((pNx e o wl s w : Nat) : Int), u) := by
  have p6 := (p5_le hw).2
  have lp : ∀ (m k : Nat), k ≤ w → w < k + m → f_X19_next_12 N b g pa m u (some ta) (iI wl) (iI ((pNx e o wl s k : Nat) : Int)) (iI ((5 ^ k : Nat) : Int)) (iI ((s / 5 ^ k : Nat) : Int)) (iI k) = some (iI ((pNx e o wl s w : Nat) : Int), u) := by
    intro m
    induction m with
    | zero => intro k h1 h2; omega
    | succ m ih =>
      intro k h1 h2
      rw [f_X19_next_12, v_gr hp (k := 0) rfl, p_bs, p_bs, v_gi hb (k := 3) rfl, p_bs]
      by_cases hk : k = w
      · subst hk
        rw [p_le (by omega) (by omega) (by omega) (by omega) (by omega)]
      · have pk := (p5_le (k := k) (by omega)).2
        have pk0 := (p5_le (k := k) (by omega)).1
        have sk : s / 5 ^ k ≤ s := Nat.div_le_self _ _
        have nk := pNx_lt (e := e) (o := o) (wl := wl) (s := s) (w := k)
        have ek : iI (k : Int) + 1 = iI ((k + 1 : Nat) : Int) := by
          rw [j1, i_add]
          rfl
        have e5 : iI ((5 ^ k : Nat) : Int) * 5 = iI ((5 ^ (k + 1) : Nat) : Int) := by
          rw [show (5 : Int32) = iI 5 from rfl, i_mul, Nat.pow_succ]
          rfl
        have go : ∀ z : Int, z = (if k = wl then o else e) → f_X19_next_45 N b g pa (f_X19_next_12 N b g pa m) u (some ta) (iI wl) (iI ((pNx e o wl s k : Nat) : Int)) (iI ((5 ^ k : Nat) : Int)) (iI ((s / 5 ^ k : Nat) : Int)) (iI k) (iI z) (iI ((s / 5 ^ k : Nat) : Int) - iI ((s / 5 ^ k : Nat) : Int) / 5 * 5) = some (iI ((pNx e o wl s w : Nat) : Int), u) := by
          intro z hz
          have zb : -4 ≤ z ∧ z ≤ 4 := by
            rw [hz]
            split <;> omega
          unfold f_X19_next_45
          obtain ⟨y, y1, y2⟩ := p_clm (x := ((s / 5 ^ k % 5 : Nat) : Int) + z) (by omega) (N := N) (b := b) (g := g) (u := u)
          rw [i_md5 (by omega), i_add, p_let, y1, q_uc, y2, q_uc, i_mul, i_add, p_let, e5, p_let, i_dv5 (by omega), p_let, ek, p_let, p_dv]
          have := ih (k + 1) (by omega) (by omega)
          rw [← this]
          have q : ((pNx e o wl s k : Nat) : Int) + ((5 ^ k : Nat) : Int) * ((pCl (((s / 5 ^ k % 5 : Nat) : Int) + z) : Nat) : Int) = ((pNx e o wl s (k + 1) : Nat) : Int) := by
            rw [hz]
            show _ = ((pNx e o wl s k + 5 ^ k * pCl (((s / 5 ^ k % 5 : Nat) : Int) + (if k = wl then o else e)) : Nat) : Int)
            rw [Int.natCast_add, Int.natCast_mul]
          rw [q]
        rw [n_le (by omega) (by omega) (by omega) (by omega) (by omega)]
        by_cases hq : k = wl
        · rw [if_pos (show iI (k : Int) = iI (wl : Int) by rw [hq]), p_bs, if_pos (v_is ha)]
          unfold f_X10_one
          rw [v_gi ha (k := 2) rfl, p_bs, q_uc]
          exact go o (if_pos hq).symm
        · rw [if_neg (show ¬ iI (k : Int) = iI (wl : Int) by rw [j_eq (by omega) (by omega) (by omega) (by omega)]; omega), p_bs, if_pos (v_is ha)]
          unfold f_X10_each
          rw [v_gi ha (k := 1) rfl, p_bs, q_uc]
          exact go e (if_neg hq).symm
  have := lp N 0 (by omega) (by omega)
  unfold f_X19_next
  rw [Nat.pow_zero, Nat.div_one] at this
  exact this
/-- the state, of both -/
theorem m_state {N : Nat} {σ : MS} {w : Nat} {v : Nat → Nat} (h24 : σ.1 24 = iI w) (hw : w ≤ 6) (hv : ∀ k, k < 6 → σ.2.1 47 k = iI (v k) ∧ v k ≤ 4) (hN : 10 ≤ N) : f_digState N σ = some (iI ((pSt v w : Nat) : Int), σ) := by
  have h4 : ∀ k, k < w → v k ≤ 4 := fun k hk => (hv k (by omega)).2
  have pl := pSt_lt w h4
  have p6 := (p5_le hw).2
  have lp : ∀ (m k : Nat), k ≤ w → k < m → f_digState_9 N m σ (iI ((pSt v w / 5 ^ k : Nat) : Int)) (iI ((k : Int) - 1)) = some (iI ((pSt v w : Nat) : Int), σ) := by
    intro m
    induction m with
    | zero => intro k h1 h2; omega
    | succ m ih =>
      intro k h1 h2
      rw [f_digState_9]
      by_cases hk : k = 0
      · subst hk
        rw [j0, p_lt (by omega) (by omega) (by omega) (by omega) (by omega), Nat.pow_zero, Nat.div_one]
      · obtain ⟨j, rfl⟩ : ∃ j, k = j + 1 := ⟨k - 1, by omega⟩
        have ej : ((j + 1 : Nat) : Int) - 1 = (j : Int) := by omega
        have sk : pSt v w / 5 ^ (j + 1) ≤ pSt v w := Nat.div_le_self _ _
        obtain ⟨t1, t2⟩ := t_ix (a := (j : Int)) (n := mLen 47) (k := j) rfl (by rw [show mLen 47 = 6 from rfl]; omega) (by rw [show mLen 47 = 6 from rfl]; omega)
        have q : 5 * ((pSt v w / 5 ^ (j + 1) : Nat) : Int) + (v j : Int) = ((pSt v w / 5 ^ j : Nat) : Int) := by
          have := p_step (s := pSt v w) (k := j)
          rw [pSt_dig w h4 (by omega)] at this
          omega
        rw [ej, j0, n_lt (by omega) (by omega) (by omega) (by omega) (by omega), if_pos t1, p_let, t2, (hv j (by omega)).1, show (5 : Int32) = iI 5 from rfl, i_mul, i_add, p_let, q, j_m1, i_add, p_let]
        exact ih j (by omega) (by omega)
  have := lp N w (by omega) (by omega)
  unfold f_digState
  rw [h24, j1, i_sub, p_let]
  rw [Nat.div_eq_of_lt pl] at this
  exact this
theorem c_state {N b : Nat} {g : uEnv} {u : UH} {ad : Nat → Nat} {σ : MS} {mp pt : Value} {w bo : Nat} {v : Nat → Nat} {f : Nat → Int32} {r0 r1 r2 : Value} {fs : List Value} (hx : u.2.2 (ad 0) = some (xO ad σ (.ref bo) mp pt)) (hb : u.2.2 bo = some (.inr (3, r0 :: r1 :: r2 :: .int (iI w) :: fs))) (hd : u.2.2 (ad 5) = some (.inl (0, 6, .inl f))) (hw : w ≤ 6) (hv : ∀ k, k < 6 → f k = iI (v k) ∧ v k ≤ 4) (hN : 10 ≤ N) : f_X1_state N b g u (ad 0) = some (iI ((pSt v w : Nat) : Int), u) := by
  have h4 : ∀ k, k < w → v k ≤ 4 := fun k hk => (hv k (by omega)).2
  have pl := pSt_lt w h4
  have p6 := (p5_le hw).2
  have lp : ∀ (m k : Nat), k ≤ w → k < m → f_X1_state_12 N b g (ad 0) m u (iI ((pSt v w / 5 ^ k : Nat) : Int)) (iI ((k : Int) - 1)) = some (iI ((pSt v w : Nat) : Int), u) := by
    intro m
    induction m with
    | zero => intro k h1 h2; omega
    | succ m ih =>
      intro k h1 h2
      rw [f_X1_state_12]
      by_cases hk : k = 0
      · subst hk
        rw [j0, p_lt (by omega) (by omega) (by omega) (by omega) (by omega), Nat.pow_zero, Nat.div_one]
      · obtain ⟨j, rfl⟩ : ∃ j, k = j + 1 := ⟨k - 1, by omega⟩
        have ej : ((j + 1 : Nat) : Int) - 1 = (j : Int) := by omega
        have sk : pSt v w / 5 ^ (j + 1) ≤ pSt v w := Nat.div_le_self _ _
        have q : 5 * ((pSt v w / 5 ^ (j + 1) : Nat) : Int) + (v j : Int) = ((pSt v w / 5 ^ j : Nat) : Int) := by
          have := p_step (s := pSt v w) (k := j)
          rw [pSt_dig w h4 (by omega)] at this
          omega
        have Ld : uLdI u (ad 5) 0 (iI (j : Int)) = some (f j) := u_ldI hd (by omega) (by omega) (by omega)
        rw [ej, j0, n_lt (by omega) (by omega) (by omega) (by omega) (by omega), v_gr hx (k := 14) rfl, p_bs, p_bs, Ld, p_bs, (hv j (by omega)).1, show (5 : Int32) = iI 5 from rfl, i_mul, i_add, p_let, q, j_m1, i_add, p_let]
        exact ih j (by omega) (by omega)
  have := lp N w (by omega) (by omega)
  unfold f_X1_state
  rw [x_bk hx, p_bs, p_bs, v_gi hb (k := 3) rfl, p_bs, j1, i_sub, p_let]
  rw [Nat.div_eq_of_lt pl] at this
  exact this
