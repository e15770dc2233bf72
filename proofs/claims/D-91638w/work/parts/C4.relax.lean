/-! PLAIN: the class's Dijkstra: a cell lowers those beside it -/
def iV (x : Nat) : Int64 := iL (if x < 1000000000000000 then (x : Int) else 9223372036854775807)
def cVs (V : Nat → Int64) (cd n : Nat) (X : Nat → Nat) : Prop := ∀ d, d < n → V (100 * cd + d) = iV (X d) ∧ X d ≤ 1000000000000000
theorem iV_f {x : Nat} (h : x < 1000000000000000) : iV x = iL (x : Int) := congrArg iL (if_pos h)
theorem iV_n {x : Nat} (h : ¬ x < 1000000000000000) : iV x = iL 9223372036854775807 := congrArg iL (if_neg h)
theorem v_isn {u : UH} {a c k : Nat} {fs : List Value} (h : u.2.2 a = some (.inr (c, fs))) (hk : c ≠ k) : uIs u a k = false := by
  unfold uIs
  rw [h]
  simp [hk]
theorem c_min {N b : Nat} {g : uEnv} {u : UH} {x v : Nat} (hv : v < 1000000000000000) : f_J9_min_2 N b g u (iV x) (iL v) = some (iV (if x ≤ v then x else v), u) := by
  unfold f_J9_min_2 f_J9_min_2_11
  by_cases hx : x < 1000000000000000
  · rw [iV_f hx]
    by_cases h : x ≤ v
    · rw [if_neg (by rw [e_cgt (by omega) (by omega) (by omega) (by omega)]; omega), if_pos h, iV_f hx]
    · rw [if_pos (by rw [e_cgt (by omega) (by omega) (by omega) (by omega)]; omega), if_neg h, iV_f hv]
  · rw [iV_n hx, if_pos (by rw [e_cgt (by omega) (by omega) (by omega) (by omega)]; omega), if_neg (by omega), iV_f hv]
/-- what stands fast in the heap while the class solves -/
def cCx (u : UH) (g : uEnv) (la da wa sa : Nat → Nat) (so ja bk : Nat) (v8 v9 v10 : Value) (w h n nd ng go mean : Nat) (hts : Nat → Int) (fl nb : Nat → Nat) (dO kn : Nat → Int) (wg : Nat → Nat → Nat) (BG : Nat → Nat → Nat → Nat) : Prop := vSo u so (la 0) go n (.ref ja) sa ∧ vLd u g la da wa bk v8 v9 v10 w h n nd hts fl dO kn wg ∧ kIs u sa ∧ (∃ cf : Nat → Int32, u.2.2 (sa 8) = some (.inl (0, 3200, .inl cf)) ∧ ∀ c y q, c < n → y < 4 → q < ng → cf ((4 * c + y) * 8 + q) = iI (cN (BG c y q))) ∧ (∃ sf : Nat → Int32, u.2.2 (sa 7) = some (.inl (0, 100, .inl sf)) ∧ ∀ c, c < n → sf c = iI (nb c) ∧ nb c < 32) ∧ ng ≤ 8 ∧ (∀ c, c < n → fl c < ng) ∧ (∀ e k, e < nd → k < zCn (wg e) 8 → zKd (wg e) k < ng) ∧ (∀ c y q, c < n → y < 4 → q < ng → BG c y q ≤ 30071) ∧ ((mean = 0 ∧ u.2.2 ja = some (.inr (15, []))) ∨ (mean = 1 ∧ u.2.2 ja = some (.inr (14, []))))
theorem c_225 {N b : Nat} {g : uEnv} {u : UH} {la da wa sa : Nat → Nat} {so ja bk : Nat} {v8 v9 v10 : Value} {w h n nd ng go mean cd nx scl sc tn : Nat} {hts : Nat → Int} {fl nb : Nat → Nat} {dO kn : Nat → Int} {wg : Nat → Nat → Nat} {BG : Nat → Nat → Nat → Nat} {D P : Nat → Int32} {rs : UH → Nat → Int32 → Int32 → Int32 → Option (Int64 × UH)} {ro : UH → Nat → Int32 → Int32 → Option (Int64 × UH)} {rv : UH → Nat → Int32 → Option UH} {k103 : UH → Int32 → Int32 → Int32 → Int64 → Int32 → Option UH} (hX : cCx u g la da wa sa so ja bk v8 v9 v10 w h n nd ng go mean hts fl nb dO kn wg BG) (hk : kOk b sa) (hcd : cd < 1024) (hnx : nx < n) (hgo : go < n) (hkn : ∀ c y, c < n → y < 4 → zFr nd nb cd go c → 0 ≤ besI w h c y → dO (besI w h c y).toNat ≠ -1 → zD cd (dO (besI w h c y).toNat).toNat ≠ 0 ∧ zD cd (dO (besI w h c y).toNat).toNat ≤ zCn (wg (dO (besI w h c y).toNat).toNat) 8) (hscl : scl ≤ 14348907) (hsc : sc = if mean = 0 then 1 else scl) (hN : 9 ≤ N) : ∀ (m y : Nat) (V : Nat → Int64) (X : Nat → Nat), y ≤ 4 → 4 < y + m → cVs V cd n X → X nx < 999000000000000 →
    ∃ (V' : Nat → Int64) (X' : Nat → Nat), f_X2_solve_225 N b g rs ro rv so k103 m (kH u sa V D P) (iI cd) (iI ((100 * cd : Nat) : Int)) (iI (zUb cd nd)) (iL scl) (iI tn) (iI nx) (some (la 6)) (iI 4) (iI y) = k103 (kH u sa V' D P) (iI cd) (iI ((100 * cd : Nat) : Int)) (iI (zUb cd nd)) (iL scl) (iI ((tn + 1 : Nat) : Int)) ∧ cVs V' cd n X' ∧ (∀ i, (∀ d, d < n → i ≠ 100 * cd + d) → V' i = V i) ∧ X' nx = X nx ∧ (∀ c, X' c ≤ X c) ∧ (∀ c, X' c = X c ∨ (c < n ∧ zFr nd nb cd go c ∧ ∃ q k, zEd w h sc (zKc w h fl dO (fun e k => zKd (wg e) k) BG cd) c q = some (nx, k) ∧ X' c = X nx + k)) ∧ ∀ c y' k, y ≤ y' → y' < 4 → c < n → besI w h nx y' = (c : Int) → zFr nd nb cd go c → zEd w h sc (zKc w h fl dO (fun e k => zKd (wg e) k) BG cd) c (zOp y') = some (nx, k) → X' c ≤ X nx + k := by
  obtain ⟨hO, hL, hi, ⟨cf, c1, c2⟩, ⟨sf, f1, f2⟩, hng, hfl, hkd, hBG, hJ⟩ := hX
  have hL' := hL
  obtain ⟨l0, hw, hh, hn, hnd, -, -, ⟨df, df1, df2⟩, -, ⟨yf, wr, y1, y2⟩, -⟩ := hL
  have m4 : w * h ≤ 10 * 10 := Nat.mul_le_mul hw.2 hh.2
  have ul : zUb cd nd < 32 := Nat.lt_of_lt_of_le (zUb_lt nd) (Nat.pow_le_pow_right (by decide) hnd)
  have scb : sc ≤ 14348907 := by
    rw [hsc]
    split <;> omega
  intro m
  induction m with
  | zero => intro y V X h1 h2; omega
  | succ m ih =>
    intro y V X h1 h2 hV hnb
    rw [f_X2_solve_225]
    unfold f_X2_solve_360
    have et : iI (tn : Int) + 1 = iI ((tn + 1 : Nat) : Int) := by
      rw [j1, i_add]
      rfl
    by_cases hy : y = 4
    · subst hy
      refine ⟨V, X, ?_, hV, fun i _ => rfl, rfl, fun c => Nat.le_refl _, fun c => Or.inl rfl, fun c y' k d1 d2 => by omega⟩
      rw [if_pos (show iI (4 : Int) ≤ iI ((4 : Nat) : Int) from Int32.le_refl _), p_let, et]
    · have hy4 : y < 4 := by omega
      have ey : iI (y : Int) + 1 = iI ((y + 1 : Nat) : Int) := by
        rw [j1, i_add]
        rfl
      obtain ⟨w1, w2⟩ := y2 y hy4
      obtain ⟨w3, w4⟩ := y2 (zOp y) (zOp_lt hy4)
      have hOk := hO.kH (V := V) (D := D) (P := P) hi
      have hLk := hL'.kH (V := V) (D := D) (P := P) hi
      have l0k := hLk.1
      have Ly : uLdR (kH u sa V D P) (la 6) 5 (iI (y : Int)) = some (some (wr y)) := by
        rw [u_ldR (kH_l hi y1 (by decide) (by decide)) (by omega) (by omega) (by omega)]
        exact congrArg some w1
      have Lo : uLdR (kH u sa V D P) (la 6) 5 (iI ((zOp y : Nat) : Int)) = some (some (wr (zOp y))) := by
        have := zOp_lt hy4
        rw [u_ldR (kH_l hi y1 (by decide) (by decide)) (by omega) (by omega) (by omega)]
        exact congrArg some w3
      -- the rest, if nothing is lowered
      have skip : (∀ c k : Nat, besI w h nx y = (c : Int) → c < n → zFr nd nb cd go c → zEd w h sc (zKc w h fl dO (fun e k => zKd (wg e) k) BG cd) c (zOp y) = some (nx, k) → False) → ∃ (V' : Nat → Int64) (X' : Nat → Nat), f_X2_solve_225 N b g rs ro rv so k103 m (kH u sa V D P) (iI cd) (iI ((100 * cd : Nat) : Int)) (iI (zUb cd nd)) (iL scl) (iI tn) (iI nx) (some (la 6)) (iI 4) (iI ((y + 1 : Nat) : Int)) = k103 (kH u sa V' D P) (iI cd) (iI ((100 * cd : Nat) : Int)) (iI (zUb cd nd)) (iL scl) (iI ((tn + 1 : Nat) : Int)) ∧ cVs V' cd n X' ∧ (∀ i, (∀ d, d < n → i ≠ 100 * cd + d) → V' i = V i) ∧ X' nx = X nx ∧ (∀ c, X' c ≤ X c) ∧ (∀ c, X' c = X c ∨ (c < n ∧ zFr nd nb cd go c ∧ ∃ q k, zEd w h sc (zKc w h fl dO (fun e k => zKd (wg e) k) BG cd) c q = some (nx, k) ∧ X' c = X nx + k)) ∧ ∀ c y' k, y ≤ y' → y' < 4 → c < n → besI w h nx y' = (c : Int) → zFr nd nb cd go c → zEd w h sc (zKc w h fl dO (fun e k => zKd (wg e) k) BG cd) c (zOp y') = some (nx, k) → X' c ≤ X nx + k := fun hno => by
        obtain ⟨V', X', a1, a2, a3, a4, a5, a6, a7⟩ := ih (y + 1) V X (by omega) (by omega) hV hnb
        refine ⟨V', X', a1, a2, a3, a4, a5, a6, fun c y' k d1 d2 d3 d4 d5 d6 => ?_⟩
        by_cases e : y' = y
        · subst e
          exact absurd d6 (fun z => hno c k d4 d3 d5 z)
        · exact a7 c y' k (by omega) d2 d3 d4 d5 d6
      rw [n_le (by omega) (by omega) (by omega) (by omega) (by omega), p_bs, Ly, p_bs, v_gr hOk (k := 0) rfl, p_bs, p_bs, if_pos (v_is l0k), b_X14 l0k rfl rfl w2 hw hh (hn ▸ hnx), q_uc]
      rcases bes_b (w := w) (h := h) (c := nx) (d := y) hw hh with hb | ⟨hb0, hb1, hb2⟩
      · rw [hb, if_pos (show iI (-1) = -1 from rfl), p_let, ey]
        exact skip (fun c k q1 _ _ _ => by omega)
      · obtain ⟨fm, hfm⟩ : ∃ fm : Nat, besI w h nx y = (fm : Int) := ⟨(besI w h nx y).toNat, by omega⟩
        rw [hfm] at hb0 hb1 hb2
        have hfn : fm < n := by omega
        have hop := bes_op hw hh (hn ▸ hnx) hy4 hfm
        rw [hfm, j_m1, n_eq (by omega) (by omega) (by omega) (by omega) (by omega), v_gi hOk (k := 1) rfl, p_bs]
        by_cases hg : fm = go
        · rw [p_eq (by omega) (by omega) (by omega) (by omega) (by omega), p_let, ey]
          exact skip (fun c k q1 _ q3 _ => q3.1 (by omega))
        · have s7 := f2 fm hfn
          have L7 : uLdI (kH u sa V D P) (sa 7) 0 (iI (fm : Int)) = some (iI (nb fm)) := by
            rw [u_ldI (kH_l hi f1 (by decide) (by decide)) (by omega) (by omega) (by omega)]
            exact congrArg some s7.1
          rw [n_eq (by omega) (by omega) (by omega) (by omega) (by omega), v_gr hOk (k := 7) rfl, p_bs, p_bs, L7, p_bs, t_and s7.2 ul]
          have al : nb fm &&& zUb cd nd < 32 := Nat.lt_of_le_of_lt Nat.and_le_right ul
          by_cases hz : nb fm &&& zUb cd nd = 0
          · have hfr : zFr nd nb cd go fm := ⟨hg, z_free.mp hz⟩
            have hqq : ∀ q : Nat, q = fm → True := fun _ _ => trivial
            obtain ⟨-, -, ox⟩ := zOp_x hy4
            have e1 : besI w h fm (zOp y) = (nx : Int) := hop
            have ct := c_cost (N := N) (b := b) (BG := BG) (cd := cd) hOk hLk (kH_l hi c1 (by decide) (by decide)) c2 hng hfl hkd hcd hfn w4 (zOp_lt hy4) (hkn fm (zOp y) hfn (zOp_lt hy4) hfr) hN
            rw [if_pos (show iI ((nb fm &&& zUb cd nd : Nat) : Int) = 0 by rw [hz]; rfl), v_gr hOk (k := 0) rfl, p_bs, p_bs, v_gr l0k (k := 7) rfl, p_bs, p_bs, c_ord w2 hy4, q_uc, p_bs, ox, Lo, p_bs, if_pos (v_is hOk), ct, q_uc]
            have kat := zKc_at (w := w) (h := h) (fl := fl) (dO := dO) (kd := fun e k => zKd (wg e) k) (BG := BG) (cd := cd) (c := fm) (zOp_lt hy4)
            by_cases hk0 : zK w h fl dO (fun e k => zKd (wg e) k) BG cd fm (zOp y) = 0
            · rw [hk0, if_pos (show iI (cN 0) = iI (-1) from rfl), p_let, ey]
              refine skip (fun c k q1 _ _ q4 => ?_)
              have : c = fm := by omega
              subst this
              unfold zEd at q4
              rw [if_neg (fun z => z.2 (kat.trans hk0))] at q4
              cases q4
            · have kb : zK w h fl dO (fun e k => zKd (wg e) k) BG cd fm (zOp y) ≤ 30071 := by
                unfold zK
                rw [e1, if_neg (by omega)]
                have tn : ((nx : Int)).toNat = nx := rfl
                rw [tn]
                obtain ⟨q1, q2, -⟩ := df2 nx hnx
                by_cases hd : dO nx = -1
                · rw [if_pos hd]
                  exact hBG fm _ _ hfn (zOp_lt hy4) (hfl nx hnx)
                · have hh2 := hkn fm (zOp y) hfn (zOp_lt hy4) hfr (by omega)
                  rw [e1, tn] at hh2
                  rw [if_neg hd, if_neg (hh2 hd).1]
                  have := (hh2 hd)
                  exact hBG fm _ _ hfn (zOp_lt hy4) (hkd _ _ (by omega) (by omega))
              have hed : zEd w h sc (zKc w h fl dO (fun e k => zKd (wg e) k) BG cd) fm (zOp y) = some (nx, sc * zK w h fl dO (fun e k => zKd (wg e) k) BG cd fm (zOp y)) := by
                unfold zEd
                rw [kat, if_pos ⟨zOp_lt hy4, hk0⟩, e1]
                rfl
              generalize zK w h fl dO (fun e k => zKd (wg e) k) BG cd fm (zOp y) = kk at hk0 kb hed ct ⊢
              have ek : iI (cN kk) = iI (kk : Int) := congrArg iI (if_neg hk0)
              have pb : sc * kk ≤ 14348907 * 30071 := Nat.mul_le_mul scb kb
              have pt : (if uIs (kH u sa V D P) ja 14 = true then f_X16_parts N b g (kH u sa V D P) ja (iI (kk : Int)).toInt64 (iL (scl : Int)) else if uIs (kH u sa V D P) ja 15 = true then f_X17_parts N b g (kH u sa V D P) ja (iI (kk : Int)).toInt64 (iL (scl : Int)) else none) = some (iL ((sc * kk : Nat) : Int), kH u sa V D P) := by
                rw [e_i2l (by omega) (by omega)]
                rcases hJ with ⟨j1', j2'⟩ | ⟨j1', j2'⟩
                · rw [v_isn (kH_r hi j2') (by decide), if_neg (by decide), if_pos (v_is (kH_r hi j2'))]
                  rw [if_pos j1'] at hsc
                  rw [hsc, Nat.one_mul]
                  rfl
                · rw [if_pos (v_is (kH_r hi j2'))]
                  rw [if_neg (by omega)] at hsc
                  unfold f_X16_parts
                  rw [e_mul, hsc, Nat.mul_comm, Int.natCast_mul]
              obtain ⟨x1, x2⟩ := hV fm hfn
              obtain ⟨x3, x4⟩ := hV nx hnx
              have ei : ((100 * cd : Nat) : Int) + (fm : Int) = ((100 * cd + fm : Nat) : Int) := by omega
              have ei2 : ((100 * cd : Nat) : Int) + (nx : Int) = ((100 * cd + nx : Nat) : Int) := by omega
              rw [ek, n_eq (by omega) (by omega) (by omega) (by omega) (by omega), v_gr hOk (k := 4) rfl, p_bs, p_bs, p_bs, i_add, k_ldV ei (by omega), p_bs, p_bs, p_bs, i_add, k_ldV ei2 (by omega), p_bs, v_gr hOk (k := 3) rfl, p_bs, p_bs, pt, q_uc, x1, x3, iV_f (by omega : X nx < 1000000000000000), e_add, show (X nx : Int) + ((sc * kk : Nat) : Int) = ((X nx + sc * kk : Nat) : Int) from by omega, c_min (by omega), q_uc, p_bs, k_stV hk ei (by omega), p_bs, p_let, ey]
              have hV1 : cVs (vp_updL V (100 * cd + fm) (iV (if X fm ≤ X nx + sc * kk then X fm else X nx + sc * kk))) cd n (zS X fm (if X fm ≤ X nx + sc * kk then X fm else X nx + sc * kk)) := fun d hd => by
                unfold vp_updL
                by_cases e : d = fm
                · rw [e, if_pos rfl, zS_s]
                  refine ⟨rfl, ?_⟩
                  split <;> omega
                · rw [if_neg (by omega), zS_n e]
                  exact hV d hd
              have hle : ∀ d, zS X fm (if X fm ≤ X nx + sc * kk then X fm else X nx + sc * kk) d ≤ X d := fun d => by
                by_cases e : d = fm
                · rw [e, zS_s]
                  split <;> omega
                · rw [zS_n e]; exact Nat.le_refl _
              have hnn : zS X fm (if X fm ≤ X nx + sc * kk then X fm else X nx + sc * kk) nx = X nx := by
                by_cases e : nx = fm
                · rw [← e, zS_s, if_pos (by omega)]
                · exact zS_n e
              obtain ⟨V', X', a1, a2, a3, a4, a5, a6, a7⟩ := ih (y + 1) _ _ (by omega) (by omega) hV1 (by rw [hnn]; exact hnb)
              rw [hnn] at a4 a6 a7
              refine ⟨V', X', a1, a2, fun i hi' => ?_, a4, fun c => Nat.le_trans (a5 c) (hle c), fun c => ?_, fun c y' k d1 d2 d3 d4 d5 d6 => ?_⟩
              · rw [a3 i hi']
                unfold vp_updL
                rw [if_neg (hi' fm hfn)]
              · rcases a6 c with q | q
                · by_cases e : c = fm
                  · subst e
                    rw [q, zS_s]
                    by_cases hle2 : X c ≤ X nx + sc * kk
                    · rw [if_pos hle2]; exact Or.inl rfl
                    · rw [if_neg hle2]; exact Or.inr ⟨hfn, hfr, zOp y, sc * kk, hed, rfl⟩
                  · rw [q, zS_n e]; exact Or.inl rfl
                · exact Or.inr q
              · by_cases e : y' = y
                · subst e
                  have : c = fm := by omega
                  subst this
                  rw [hed] at d6
                  cases d6
                  have := a5 c
                  rw [zS_s] at this
                  refine Nat.le_trans this ?_
                  split <;> omega
                · exact a7 c y' k (by omega) d2 d3 d4 d5 d6
          · rw [if_neg (show ¬ iI ((nb fm &&& zUb cd nd : Nat) : Int) = 0 by rw [j0, j_eq (by omega) (by omega) (by omega) (by omega)]; omega), p_let, ey]
            refine skip (fun c k q1 _ q3 _ => hz ?_)
            have : c = fm := by omega
            rw [← this]
            exact z_free.mpr q3.2
