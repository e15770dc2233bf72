/-! PLAIN: the class's Dijkstra: the choice, the turns -/
theorem vn_1 : vp_nar .boolean 1 = 1 := rfl
/-- what is chosen among the first c: -1, or the least one that is not settled -/
def zCh (n c : Nat) (X : Nat → Nat) (P : Nat → Int32) (nx : Int) : Prop := (nx = -1 ∧ ∀ d, d < c → P d = 0 → 1000000000000000 ≤ X d) ∨ ∃ q : Nat, nx = (q : Int) ∧ q < n ∧ P q = 0 ∧ X q < 1000000000000000 ∧ ∀ d, d < c → P d = 0 → X d < 1000000000000000 → X q ≤ X d
theorem c_118 {N b : Nat} {g : uEnv} {u : UH} {la da wa sa : Nat → Nat} {so ja bk : Nat} {v8 v9 v10 : Value} {w h n nd ng go mean cd scl tn : Nat} {hts : Nat → Int} {fl nb : Nat → Nat} {dO kn : Nat → Int} {wg : Nat → Nat → Nat} {BG : Nat → Nat → Nat → Nat} {V : Nat → Int64} {D P : Nat → Int32} {X : Nat → Nat} {rs : UH → Nat → Int32 → Int32 → Int32 → Option (Int64 × UH)} {ro : UH → Nat → Int32 → Int32 → Option (Int64 × UH)} {rv : UH → Nat → Int32 → Option UH} {k103 : UH → Int32 → Int32 → Int32 → Int64 → Int32 → Option UH} (hX : cCx u g la da wa sa so ja bk v8 v9 v10 w h n nd ng go mean hts fl nb dO kn wg BG) (hk : kOk b sa) (hcd : cd < 1024) (hV : cVs V cd n X) (hP : ∀ c, c < n → P c = 0 ∨ P c = 1) : ∀ (m c : Nat) (nx : Int), c ≤ n → n < c + m → zCh n c X P nx →
    ∃ nx' : Int, zCh n n X P nx' ∧ f_X2_solve_118 N b g rs ro rv so k103 m (kH u sa V D P) (iI cd) (iI ((100 * cd : Nat) : Int)) (iI (zUb cd nd)) (iL scl) (iI tn) (iI nx) (iI c) = (if nx' = -1 then some (kH u sa V (upd D cd 1) P) else f_X2_solve_225 N b g rs ro rv so k103 N (kH u sa V D (upd P nx'.toNat 1)) (iI cd) (iI ((100 * cd : Nat) : Int)) (iI (zUb cd nd)) (iL scl) (iI tn) (iI nx') (some (la 6)) (iI 4) (iI ((0 : Nat) : Int))) := by
  obtain ⟨hO, hL, hi, -⟩ := hX
  have hOk := hO.kH (V := V) (D := D) (P := P) hi
  have hL' := hL
  obtain ⟨l0, hw, hh, hn, hnd, -, -, -, -, ⟨yf, wr, y1, y2⟩, -⟩ := hL
  have m4 : w * h ≤ 10 * 10 := Nat.mul_le_mul hw.2 hh.2
  intro m
  induction m with
  | zero => intro c nx h1 h2; omega
  | succ m ih =>
    intro c nx h1 h2 hz
    rw [f_X2_solve_118]
    unfold f_X2_solve_181 f_X2_solve_185
    have nxb : -1 ≤ nx ∧ nx < 100 := by
      rcases hz with ⟨a, -⟩ | ⟨q, a, b, -⟩ <;> omega
    rw [v_gi hOk (k := 2) rfl, p_bs]
    by_cases hc : n ≤ c
    · have ec : c = n := by omega
      subst ec
      refine ⟨nx, hz, ?_⟩
      rw [p_le (by omega) (by omega) (by omega) (by omega) (by omega), j_m1]
      by_cases hx : nx = -1
      · rw [p_eq (by omega) (by omega) (by omega) (by omega) (by omega), if_pos hx]
        unfold f_X2_solve_372
        rw [v_gr hOk (k := 5) rfl, p_bs, p_bs, vn_1, k_stD hk rfl hcd, p_bs]
      · have hO2 := hO.kH (V := V) (D := D) (P := upd P nx.toNat 1) hi
        have hL2 := hL'.kH (V := V) (D := D) (P := upd P nx.toNat 1) hi
        rw [n_eq (by omega) (by omega) (by omega) (by omega) (by omega), if_neg hx, v_gr hOk (k := 6) rfl, p_bs, p_bs, vn_1, k_stP hk (show nx = ((nx.toNat : Nat) : Int) by omega) (by omega), p_bs, v_gr hO2 (k := 0) rfl, p_bs, p_bs, v_gr hL2.1 (k := 7) rfl, p_bs, p_bs, u_len (kH_l hi y1 (by decide) (by decide)), p_bs]
        rfl
    · have ec : iI (c : Int) + 1 = iI ((c + 1 : Nat) : Int) := by
        rw [j1, i_add]
        rfl
      obtain ⟨x1, x2⟩ := hV c (by omega)
      have ei : ((100 * cd : Nat) : Int) + (c : Int) = ((100 * cd + c : Nat) : Int) := by omega
      have keep : (P c = 0 → X c < 1000000000000000 → ∃ q : Nat, nx = (q : Int) ∧ X q ≤ X c) → zCh n (c + 1) X P nx := fun hq => by
        rcases hz with ⟨a1, a2⟩ | ⟨q, a1, a2, a3, a4, a5⟩
        · refine Or.inl ⟨a1, fun d d1 d2 => ?_⟩
          by_cases e : d = c
          · subst e
            apply Classical.byContradiction
            intro hno
            obtain ⟨q, q1, -⟩ := hq d2 (by omega)
            omega
          · exact a2 d (by omega) d2
        · refine Or.inr ⟨q, a1, a2, a3, a4, fun d d1 d2 d3 => ?_⟩
          by_cases e : d = c
          · subst e
            obtain ⟨q', q1, q2⟩ := hq d2 d3
            have : q' = q := by omega
            rw [← this]; exact q2
          · exact a5 d (by omega) d2 d3
      have take : P c = 0 → X c < 1000000000000000 → (∀ d, d < c → P d = 0 → X d < 1000000000000000 → X c ≤ X d) → zCh n (c + 1) X P (c : Int) := fun q1 q2 q3 => by
        refine Or.inr ⟨c, rfl, by omega, q1, q2, fun d d1 d2 d3 => ?_⟩
        by_cases e : d = c
        · rw [e]; exact Nat.le_refl _
        · exact q3 d (by omega) d2 d3
      rw [n_le (by omega) (by omega) (by omega) (by omega) (by omega), v_gr hOk (k := 6) rfl, p_bs, p_bs, k_ldP hk rfl (by omega), p_bs]
      rcases hP c (by omega) with hp | hp
      · rw [if_pos hp, v_gr hOk (k := 4) rfl, p_bs, p_bs, i_add, k_ldV ei (by omega), p_bs, x1, eLM]
        by_cases hf : X c < 1000000000000000
        · rw [iV_f hf, n_c0 (by omega) (by omega) (by omega) (by omega) (by omega), j_m1]
          by_cases hx : nx = -1
          · rw [p_eq (by omega) (by omega) (by omega) (by omega) (by omega), p_let, ec]
            refine ih (c + 1) (c : Int) (by omega) (by omega) (take hp hf (fun d d1 d2 d3 => ?_))
            rcases hz with ⟨-, a2⟩ | ⟨q, a1, -⟩
            · have := a2 d d1 d2
              omega
            · omega
          · rcases hz with ⟨a1, -⟩ | ⟨q, a1, a2, a3, a4, a5⟩
            · exact absurd a1 hx
            · obtain ⟨x3, x4⟩ := hV q a2
              have eq : ((100 * cd : Nat) : Int) + nx = ((100 * cd + q : Nat) : Int) := by omega
              rw [n_eq (by omega) (by omega) (by omega) (by omega) (by omega), p_bs, p_bs, k_ldV ei (by omega), p_bs, p_bs, p_bs, i_add, k_ldV eq (by omega), p_bs, x1, x3, iV_f hf, iV_f a4]
              by_cases hle : X q ≤ X c
              · rw [p_cg (by omega) (by omega) (by omega) (by omega) (by omega), p_let, ec]
                exact ih (c + 1) nx (by omega) (by omega) (keep (fun _ _ => ⟨q, a1, hle⟩))
              · rw [n_cg (by omega) (by omega) (by omega) (by omega) (by omega), p_let, ec]
                refine ih (c + 1) (c : Int) (by omega) (by omega) (take hp hf (fun d d1 d2 d3 => ?_))
                have := a5 d d1 d2 d3
                omega
        · rw [iV_n hf, p_c0 (by omega) (by omega) (by omega) (by omega) (by omega), p_let, ec]
          exact ih (c + 1) nx (by omega) (by omega) (keep (fun _ z => absurd z hf))
      · rw [if_neg (show ¬ P c = 0 by rw [hp]; decide), p_let, ec]
        exact ih (c + 1) nx (by omega) (by omega) (keep (fun z => by rw [hp] at z; exact absurd z (by decide)))
def pIn (P : Nat → Int32) (c : Nat) : Nat := if P c = 0 then 0 else 1
theorem zSum_set {A B : Nat → Nat} {q : Nat} (h1 : A q + 1 = B q) (h2 : ∀ d, d ≠ q → B d = A d) : ∀ n, q < n → zSum B n = zSum A n + 1 := by
  have h0 : ∀ n, n ≤ q → zSum B n = zSum A n := by
    intro n
    induction n with
    | zero => intro _; rfl
    | succ n ih =>
      intro h
      simp only [zSum]
      rw [ih (by omega), h2 n (by omega)]
  intro n
  induction n with
  | zero => intro h; omega
  | succ n ih =>
    intro h
    simp only [zSum]
    by_cases e : q = n
    · subst e
      rw [h0 q (Nat.le_refl _)]
      omega
    · rw [ih (by omega), h2 n (by omega)]
      omega
theorem zSum_full {A : Nat → Nat} {n : Nat} (h : zSum A n = n) (h1 : ∀ d, A d ≤ 1) (d : Nat) (hd : d < n) : A d = 1 := by
  apply Classical.byContradiction
  intro hno
  have a := h1 d
  have hc : ∀ n, zSum (fun _ => 1) n = n := by
    intro n
    induction n with
    | zero => rfl
    | succ n ih =>
      simp only [zSum]
      rw [ih]
  have := zSum_lt (X := fun _ => 1) (Y := A) h1 (d := d) (by show A d < 1; omega) n hd
  rw [hc] at this
  omega
theorem c_103 {N b : Nat} {g : uEnv} {u : UH} {la da wa sa : Nat → Nat} {so ja bk : Nat} {v8 v9 v10 : Value} {w h n nd ng go mean cd scl sc : Nat} {hts : Nat → Int} {fl nb : Nat → Nat} {dO kn : Nat → Int} {wg : Nat → Nat → Nat} {BG : Nat → Nat → Nat → Nat} {D : Nat → Int32} {Y : Nat → Nat} {rs : UH → Nat → Int32 → Int32 → Int32 → Option (Int64 × UH)} {ro : UH → Nat → Int32 → Int32 → Option (Int64 × UH)} {rv : UH → Nat → Int32 → Option UH} (hX : cCx u g la da wa sa so ja bk v8 v9 v10 w h n nd ng go mean hts fl nb dO kn wg BG) (hk : kOk b sa) (hcd : cd < 1024) (hgo : go < n) (hkn : ∀ c y, c < n → y < 4 → zFr nd nb cd go c → 0 ≤ besI w h c y → dO (besI w h c y).toNat ≠ -1 → zD cd (dO (besI w h c y).toNat).toNat ≠ 0 ∧ zD cd (dO (besI w h c y).toNat).toNat ≤ zCn (wg (dO (besI w h c y).toNat).toNat) 8) (hscl : scl ≤ 14348907) (hsc : sc = if mean = 0 then 1 else scl) (hN : 101 ≤ N) (he : ∀ c y d k, c < n → zEd w h sc (zKc w h fl dO (fun e k => zKd (wg e) k) BG cd) c y = some (d, k) → d < n ∧ 1 ≤ k) (hY : ∀ c, c < n → zFr nd nb cd go c → zB Y (zEd w h sc (zKc w h fl dO (fun e k => zKd (wg e) k) BG cd)) c) (hYb : ∀ c, c < n → Y c ≤ 1000000000000000 ∧ (Y c < 1000000000000000 → Y c < 999000000000000)) : ∀ (m tn : Nat) (V : Nat → Int64) (X : Nat → Nat) (P : Nat → Int32), tn ≤ n → n < tn + m → cVs V cd n X → (∀ c, c < n → P c = 0 ∨ P c = 1) → zSum (pIn P) n = tn → zDj n X Y (zEd w h sc (zKc w h fl dO (fun e k => zKd (wg e) k) BG cd)) (zFr nd nb cd go) (fun c => P c = 1) →
    ∃ (V' : Nat → Int64) (P' : Nat → Int32), f_X2_solve_103 N b g rs ro rv so m (kH u sa V D P) (iI cd) (iI ((100 * cd : Nat) : Int)) (iI (zUb cd nd)) (iL scl) (iI tn) = some (kH u sa V' (upd D cd 1) P') ∧ cVs V' cd n Y ∧ ∀ i, (∀ d, d < n → i ≠ 100 * cd + d) → V' i = V i := by
  have hX' := hX
  obtain ⟨hO, hL, hi, -⟩ := hX
  obtain ⟨l0, hw, hh, hn, hnd, -⟩ := hL
  have m4 : w * h ≤ 10 * 10 := Nat.mul_le_mul hw.2 hh.2
  intro m
  induction m with
  | zero => intro tn V X P h1 h2; omega
  | succ m ih =>
    intro tn V X P h1 h2 hV hP hS hD
    have hOk := hO.kH (V := V) (D := D) (P := P) hi
    have nP : ∀ c, c < n → ¬ P c = 1 → P c = 0 := fun c hc z => (hP c hc).resolve_right z
    have fin : (∀ c, c < n → P c = 0 → 1000000000000000 ≤ X c) → cVs V cd n Y := fun hM d hd => by
      have e := z_end he hY (fun c hc => (hYb c hc).1) hD (fun c hc hn => hM c hc (nP c hc hn)) d hd
      rw [← e]
      exact hV d hd
    rw [f_X2_solve_103, v_gi hOk (k := 2) rfl, p_bs]
    by_cases ht : n ≤ tn
    · have hall := fun c hc => zSum_full (A := pIn P) (n := n) (by omega) (fun d => by unfold pIn; split <;> omega) c hc
      refine ⟨V, P, ?_, fin (fun c hc z => ?_), fun i _ => rfl⟩
      · rw [p_le (by omega) (by omega) (by omega) (by omega) (by omega)]
        unfold f_X2_solve_372
        rw [v_gr hOk (k := 5) rfl, p_bs, p_bs, vn_1, k_stD hk rfl hcd, p_bs]
      · have := hall c hc
        unfold pIn at this
        rw [if_pos z] at this
        omega
    · obtain ⟨nx', c1, c2⟩ := c_118 (N := N) (D := D) (tn := tn) (scl := scl) (rs := rs) (ro := ro) (rv := rv) (k103 := f_X2_solve_103 N b g rs ro rv so m) hX' hk hcd hV hP N 0 (-1) (by omega) (by omega) (Or.inl ⟨rfl, fun d hd => by omega⟩)
      rw [n_le (by omega) (by omega) (by omega) (by omega) (by omega), show (0 : Int32) = iI ((0 : Nat) : Int) from rfl, j_m1, c2]
      rcases c1 with ⟨a1, a2⟩ | ⟨q, a1, a2, a3, a4, a5⟩
      · rw [if_pos a1]
        exact ⟨V, P, rfl, fin (fun c hc z => a2 c hc z), fun i _ => rfl⟩
      · have hpk := z_pick he hY hD a2 (by rw [a3]; decide) a4 (fun c hc hn hx => a5 c hc (nP c hc hn) hx)
        have hqb := (hYb q a2).2 (by omega)
        rw [if_neg (by omega), a1, show ((q : Int)).toNat = q from rfl]
        obtain ⟨V1, X1, r1, r2, r3, r4, r5, r6, r7⟩ := c_225 (N := N) (tn := tn) (D := D) (P := upd P q 1) (rs := rs) (ro := ro) (rv := rv) (k103 := f_X2_solve_103 N b g rs ro rv so m) hX' hk hcd a2 hgo hkn hscl hsc (by omega) N 0 V X (by omega) (by omega) hV (by omega)
        have uq : upd P q 1 q = 1 := if_pos rfl
        have un : ∀ d, d ≠ q → upd P q 1 d = P d := fun d hd => if_neg hd
        have hD1 : zDj n X1 Y (zEd w h sc (zKc w h fl dO (fun e k => zKd (wg e) k) BG cd)) (zFr nd nb cd go) (fun c => upd P q 1 c = 1) := by
          obtain ⟨d1, d2, d3, d4⟩ := hD
          have ge : ∀ c, c < n → Y c ≤ X1 c := fun c hc => by
            rcases r6 c with z | ⟨-, z1, q', k, z2, z3⟩
            · rw [z]; exact (d1 c hc).2
            · have := (hY c hc z1).2.1 q' q k z2 (by omega)
              omega
          refine ⟨fun c hc => ⟨(r2 c hc).2, ge c hc⟩, fun c hc hf => ?_, fun c hc hp => ?_, fun c y d k hc hf hed hp hd => ?_⟩
          · rcases r6 c with z | ⟨-, z1, -⟩
            · rw [z]; exact d2 c hc hf
            · exact absurd z1 hf
          · by_cases e : c = q
            · rw [e, r4]; exact hpk
            · have := d3 c hc ((un c e).symm.trans hp)
              have := r5 c
              have := ge c hc
              omega
          · by_cases e : d = q
            · subst e
              have hz : y < 4 ∧ zKc w h fl dO (fun e k => zKd (wg e) k) BG cd (4 * c + y) ≠ 0 := by
                apply Classical.byContradiction
                intro hno
                unfold zEd at hed
                rw [if_neg hno] at hed
                cases hed
              have hb : besI w h c y = (d : Int) := by
                have hkc := hz.2
                rw [zKc_at hz.1] at hkc
                have hb0 : 0 ≤ besI w h c y := by
                  apply Classical.byContradiction
                  intro hno
                  exact hkc (if_pos (by omega))
                unfold zEd at hed
                rw [if_pos hz] at hed
                have := congrArg Prod.fst (Option.some.inj hed)
                have this' : (besI w h c y).toNat = d := this
                omega
              have hb2 := bes_op hw hh (hn ▸ hc) hz.1 hb
              have hed' : zEd w h sc (zKc w h fl dO (fun e k => zKd (wg e) k) BG cd) c (zOp (zOp y)) = some (d, k) := by rw [zOp_2 hz.1]; exact hed
              have := r7 c (zOp y) k (by omega) (zOp_lt hz.1) hc hb2 hf hed'
              omega
            · have := d4 c y d k hc hf hed ((un d e).symm.trans hp) hd
              have := r5 c
              omega
        have hS1 : zSum (pIn (upd P q 1)) n = tn + 1 := by
          rw [← hS]
          refine zSum_set (q := q) ?_ (fun d hd => ?_) n a2
          · unfold pIn
            rw [a3, uq]
            rfl
          · unfold pIn
            rw [un d hd]
        obtain ⟨V2, P2, t1, t2, t3⟩ := ih (tn + 1) V1 X1 (upd P q 1) (by omega) (by omega) r2 (fun c hc => by
          by_cases e : c = q
          · rw [e, uq]; exact Or.inr rfl
          · rw [un c e]; exact hP c hc) hS1 hD1
        exact ⟨V2, P2, r1.trans t1, t2, fun i hi' => (t3 i hi').trans (r3 i hi')⟩
