/-! PLAIN: the class's first values of a number of digits -/
theorem iV_0 : (0 : Int64) = iV 0 := rfl
theorem iV_F : (9223372036854775807 : Int64) = iV 1000000000000000 := rfl
theorem c_14 {N b : Nat} {g : uEnv} {u : UH} {la da wa sa : Nat → Nat} {so ja bk : Nat} {v8 v9 v10 : Value} {w h n nd ng go mean cd U : Nat} {hts : Nat → Int} {fl nb : Nat → Nat} {dO kn : Nat → Int} {wg Y : Nat → Nat → Nat} {X0 : Nat → Nat} {BG : Nat → Nat → Nat → Nat} {rs : UH → Nat → Int32 → Int32 → Int32 → Option (Int64 × UH)} {ro : UH → Nat → Int32 → Int32 → Option (Int64 × UH)} {rv : UH → Nat → Int32 → Option UH} (hX : cCx u g la da wa sa so ja bk v8 v9 v10 w h n nd ng go mean hts fl nb dO kn wg BG) (hk : kOk b sa) (hcd : cd < 1024) (hgo : go < n) (h1 : X0 go = 0) (h2 : ∀ c, c < n → c ≠ go → nb c &&& zUb cd nd = 0 → X0 c = 1000000000000000) (h3 : ∀ c, c < n → c ≠ go → nb c &&& zUb cd nd ≠ 0 → X0 c = Y cd c) (hU : U < zUk cd nd ∨ ∀ c, c < n → c ≠ go → nb c &&& zUb cd nd = 0) (hrs : ∀ (c : Nat) (V : Nat → Int64) (D P : Nat → Int32), c < n → c ≠ go → nb c &&& zUb cd nd ≠ 0 → cInv n Y V D → ∃ (V' : Nat → Int64) (D' P' : Nat → Int32), rs (kH u sa V D P) so (iI c) (iI cd) (iI ((nb c &&& zUb cd nd : Nat) : Int)) = some (iV (Y cd c), kH u sa V' D' P') ∧ cInv n Y V' D' ∧ cFr n nd U V D V' D') (hN : 101 ≤ N) : ∀ (m c : Nat) (V : Nat → Int64) (D P : Nat → Int32), c ≤ n → n < c + m → cInv n Y V D → D cd = 0 → (∀ d, d < c → V (100 * cd + d) = iV (X0 d)) →
    ∃ (V' : Nat → Int64) (D' P' : Nat → Int32), f_X2_solve_14 N b g rs ro rv so m (kH u sa V D P) (iI cd) (iI ((100 * cd : Nat) : Int)) (iI (zUb cd nd)) (iI c) = f_X2_solve_103 N b g rs ro rv so N (kH u sa V' D' P') (iI cd) (iI ((100 * cd : Nat) : Int)) (iI (zUb cd nd)) (iL (zPr (fun e => zSum (wg e) 8) cd nd)) (iI ((0 : Nat) : Int)) ∧ cInv n Y V' D' ∧ D' cd = 0 ∧ (∀ d, d < n → V' (100 * cd + d) = iV (X0 d)) ∧ (∀ j, j < 100 → P' j = 0) ∧ ∀ x, x < 1024 → x ≠ cd → U < zUk x nd → D' x = D x ∧ ∀ d, d < n → V' (100 * x + d) = V (100 * x + d) := by
  obtain ⟨hO, hL, hi, -, ⟨sf, f1, f2⟩, -⟩ := hX
  have hL' := hL
  obtain ⟨l0, hw, hh, hn, hnd, -⟩ := hL
  have m4 : w * h ≤ 10 * 10 := Nat.mul_le_mul hw.2 hh.2
  have ul : zUb cd nd < 32 := Nat.lt_of_lt_of_le (zUb_lt nd) (Nat.pow_le_pow_right (by decide) hnd)
  intro m
  induction m with
  | zero => intro c V D P q1 q2; omega
  | succ m ih =>
    intro c V D P q1 q2 hI hD hV
    have hOk := hO.kH (V := V) (D := D) (P := P) hi
    have hLk := hL'.kH (V := V) (D := D) (P := P) hi
    rw [f_X2_solve_14]
    unfold f_X2_solve_78
    rw [v_gi hOk (k := 2) rfl, p_bs]
    by_cases hc : n ≤ c
    · have ec : c = n := by omega
      subst ec
      have sc := c_scl (N := N) (b := b) (cd := cd) hOk hLk hcd (by omega)
      obtain ⟨P', p1, p2, -⟩ := c_fill6 (N := N) (g := g) (u := u) (V := V) (D := D) hk N 0 P (by omega) (by omega)
      refine ⟨V, D, P', ?_, hI, hD, hV, fun j hj => p2 j (by omega) hj, fun x _ _ _ => ⟨rfl, fun _ _ => rfl⟩⟩
      rw [p_le (by omega) (by omega) (by omega) (by omega) (by omega), if_pos (v_is hOk), sc, q_uc, v_gr hOk (k := 6) rfl, p_bs]
      unfold f_J10_fill_2
      rw [p_bs, u_len (kH_6 hk), p_bs, show (0 : Int32) = iI ((0 : Nat) : Int) from rfl]
      have p1' : f_J10_fill_2_5 N b g N (kH u sa V D P) (some (sa 6)) (iI ((0 : Nat) : Int)) (iI ((0 : Nat) : Int)) (iI ((100 : Nat) : Int)) = some (kH u sa V D P') := p1
      rw [p1', p_bs]
    · have ec : iI (c : Int) + 1 = iI ((c + 1 : Nat) : Int) := by
        rw [j1, i_add]
        rfl
      have ei : ((100 * cd : Nat) : Int) + (c : Int) = ((100 * cd + c : Nat) : Int) := by omega
      -- what is stored for this cell
      have fin : ∀ (V1 : Nat → Int64) (D1 P1 : Nat → Int32), cInv n Y V1 D1 → D1 cd = 0 → (∀ d, d < c → V1 (100 * cd + d) = iV (X0 d)) → (∀ x, x < 1024 → x ≠ cd → U < zUk x nd → D1 x = D x ∧ ∀ d, d < n → V1 (100 * x + d) = V (100 * x + d)) → ∃ (V' : Nat → Int64) (D' P' : Nat → Int32), f_X2_solve_14 N b g rs ro rv so m (kH u sa (vp_updL V1 (100 * cd + c) (iV (X0 c))) D1 P1) (iI cd) (iI ((100 * cd : Nat) : Int)) (iI (zUb cd nd)) (iI ((c + 1 : Nat) : Int)) = f_X2_solve_103 N b g rs ro rv so N (kH u sa V' D' P') (iI cd) (iI ((100 * cd : Nat) : Int)) (iI (zUb cd nd)) (iL (zPr (fun e => zSum (wg e) 8) cd nd)) (iI ((0 : Nat) : Int)) ∧ cInv n Y V' D' ∧ D' cd = 0 ∧ (∀ d, d < n → V' (100 * cd + d) = iV (X0 d)) ∧ (∀ j, j < 100 → P' j = 0) ∧ ∀ x, x < 1024 → x ≠ cd → U < zUk x nd → D' x = D x ∧ ∀ d, d < n → V' (100 * x + d) = V (100 * x + d) := fun V1 D1 P1 a1 a2 a3 a4 => by
        obtain ⟨V', D', P', b1, b2, b3, b4, b5, b6⟩ := ih (c + 1) (vp_updL V1 (100 * cd + c) (iV (X0 c))) D1 P1 (by omega) (by omega) (fun x hx => by
          obtain ⟨y1, y2⟩ := a1 x hx
          refine ⟨y1, fun z d hd => ?_⟩
          have hne : x ≠ cd := fun e => by rw [e, a2] at z; exact absurd z (by decide)
          unfold vp_updL
          rw [if_neg (by omega)]
          exact y2 z d hd) a2 (fun d hd => by
          unfold vp_updL
          by_cases e : d = c
          · rw [e, if_pos rfl]
          · rw [if_neg (by omega)]
            exact a3 d (by omega))
        refine ⟨V', D', P', b1, b2, b3, b4, b5, fun x hx hne hu => ?_⟩
        obtain ⟨y1, y2⟩ := b6 x hx hne hu
        obtain ⟨z1, z2⟩ := a4 x hx hne hu
        refine ⟨y1.trans z1, fun d hd => ?_⟩
        rw [y2 d hd]
        unfold vp_updL
        rw [if_neg (by omega)]
        exact z2 d hd
      rw [n_le (by omega) (by omega) (by omega) (by omega) (by omega), v_gr hOk (k := 4) rfl, p_bs, v_gi hOk (k := 1) rfl, p_bs]
      by_cases hg : c = go
      · have e0 : X0 c = 0 := hg ▸ h1
        rw [p_eq (by omega) (by omega) (by omega) (by omega) (by omega), p_bs, i_add, k_stV hk ei (by omega), p_bs, p_let, ec]
        have := fin V D P hI hD hV (fun x _ _ _ => ⟨rfl, fun _ _ => rfl⟩)
        rw [e0] at this
        exact this
      · have s7 := f2 c (by omega)
        have L7 : uLdI (kH u sa V D P) (sa 7) 0 (iI (c : Int)) = some (iI (nb c)) := by
          rw [u_ldI (kH_l hi f1 (by decide) (by decide)) (by omega) (by omega) (by omega)]
          exact congrArg some s7.1
        have al : nb c &&& zUb cd nd < 32 := Nat.lt_of_le_of_lt Nat.and_le_right ul
        rw [n_eq (by omega) (by omega) (by omega) (by omega) (by omega), v_gr hOk (k := 7) rfl, p_bs, p_bs, L7, p_bs, t_and s7.2 ul]
        by_cases hz : nb c &&& zUb cd nd = 0
        · have e0 := h2 c (by omega) hg hz
          rw [if_pos (show iI ((nb c &&& zUb cd nd : Nat) : Int) = 0 by rw [hz]; rfl), p_bs, i_add, k_stV hk ei (by omega), p_bs, p_let, ec]
          have := fin V D P hI hD hV (fun x _ _ _ => ⟨rfl, fun _ _ => rfl⟩)
          rw [e0] at this
          exact this
        · have e0 := h3 c (by omega) hg hz
          have hU' : U < zUk cd nd := hU.resolve_right (fun z => hz (z c (by omega) hg))
          obtain ⟨V1, D1, P1, r1, r2, r3⟩ := hrs c V D P (by omega) hg hz hI
          obtain ⟨t1, t2⟩ := r3 cd hcd hU'
          rw [if_neg (show ¬ iI ((nb c &&& zUb cd nd : Nat) : Int) = 0 by rw [j0, j_eq (by omega) (by omega) (by omega) (by omega)]; omega), p_bs, p_bs, L7, p_bs, if_pos (v_is hOk), t_and s7.2 ul, r1, q_uc, p_bs, i_add, k_stV hk ei (by omega), p_bs, p_let, ec]
          have := fin V1 D1 P1 r2 (t1.trans hD) (fun d hd => (t2 d (by omega)).trans (hV d hd)) (fun x hx _ hu => r3 x hx hu)
          rw [e0] at this
          exact this
