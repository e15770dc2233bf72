/-! PLAIN: the class's seen: all that a doubt may be -/
def zSt (mean v wt : Nat) (o : Option Nat) : Option Nat := match o with
  | none => none
  | some a => if v < 1000000000000000 then some (if mean = 0 then (if v ≤ a then a else v) else a + wt * v) else none
def zAc (mean : Nat) (wt val : Nat → Nat) : Nat → Option Nat
  | 0 => some 0
  | k + 1 => zSt mean (val k) (wt k) (zAc mean wt val k)
theorem zAc_ov {mean : Nat} {wt val : Nat → Nat} : ∀ (m k a : Nat), zAc mean wt val k = some a → (zAc mean wt val (k + m) = none ∧ zOv mean wt val m k a = 1000000000000000 ∧ ∃ j, k ≤ j ∧ j < k + m ∧ ¬ val j < 1000000000000000) ∨ (zAc mean wt val (k + m) = some (zOv mean wt val m k a) ∧ ∀ j, k ≤ j → j < k + m → val j < 1000000000000000) := by
  intro m
  induction m with
  | zero => intro k a h; exact Or.inr ⟨h, fun j h1 h2 => by omega⟩
  | succ m ih =>
    intro k a h
    rw [zOv, show k + (m + 1) = (k + 1) + m from by omega]
    have hs : zAc mean wt val (k + 1) = if val k < 1000000000000000 then some (if mean = 0 then (if val k ≤ a then a else val k) else a + wt k * val k) else none := by
      rw [zAc, h]
      rfl
    by_cases hv : val k < 1000000000000000
    · rw [if_pos hv] at hs ⊢
      rcases ih (k + 1) _ hs with ⟨a1, a2, j, a3, a4, a5⟩ | ⟨a1, a2⟩
      · exact Or.inl ⟨a1, a2, j, by omega, a4, a5⟩
      · refine Or.inr ⟨a1, fun j h1 h2 => ?_⟩
        by_cases x : j = k
        · rw [x]; exact hv
        · exact a2 j (by omega) h2
    · rw [if_neg hv] at hs ⊢
      left
      refine ⟨?_, rfl, k, Nat.le_refl _, by omega, hv⟩
      clear ih
      induction m with
      | zero => exact hs
      | succ m ih2 =>
        rw [show k + 1 + (m + 1) = (k + 1 + m) + 1 from by omega, zAc, ih2]
        rfl
def cA (o : Option Nat) : Int64 := match o with
  | none => iL 9223372036854775807
  | some a => iL (a : Int)
theorem zAc_b {mean : Nat} {wt val : Nat → Nat} (hw : ∀ k, wt k ≤ 9) : ∀ k a, zAc mean wt val k = some a → a ≤ 9 * 1000000000000000 * k := by
  intro k
  induction k with
  | zero => intro a h; rw [zAc] at h; cases h; omega
  | succ k ih =>
    intro a h
    rw [zAc] at h
    cases hk : zAc mean wt val k with
    | none => rw [hk] at h; cases h
    | some a' =>
      rw [hk] at h
      have i1 := ih a' hk
      by_cases hv : val k < 1000000000000000
      · have h2 : some (if mean = 0 then (if val k ≤ a' then a' else val k) else a' + wt k * val k) = some a := by
          rw [← h]
          exact (if_pos hv).symm
        have h3 := Option.some.inj h2
        have h4 : wt k * val k ≤ 9 * 1000000000000000 := Nat.mul_le_mul (hw k) (by omega)
        rw [← h3]
        split
        · split <;> omega
        · omega
      · have h2 : none = some a := by
          rw [← h]
          exact (if_neg hv).symm
        cases h2
theorem c_join {N b : Nat} {g : uEnv} {u : UH} {ja mean v wt : Nat} {o : Option Nat} (hJ : (mean = 0 ∧ u.2.2 ja = some (.inr (15, []))) ∨ (mean = 1 ∧ u.2.2 ja = some (.inr (14, [])))) (ho : ∀ a, o = some a → a ≤ 30 * 1000000000000000) (hv : v ≤ 1000000000000000) (hw : wt ≤ 9) : (if uIs u ja 14 = true then f_X16_join N b g u ja (cA o) (iV v) (iI wt) else if uIs u ja 15 = true then f_X17_join N b g u ja (cA o) (iV v) (iI wt) else none) = some (cA (zSt mean v wt o), u) := by
  have pb : wt * v ≤ 9 * 1000000000000000 := Nat.mul_le_mul hw hv
  have key : ∀ a : Nat, o = some a → a ≤ 30 * 1000000000000000 := ho
  rcases hJ with ⟨rfl, j2⟩ | ⟨rfl, j2⟩
  · rw [v_isn j2 (by decide), if_neg (by decide), if_pos (v_is j2)]
    unfold f_X17_join f_X17_join_16 f_X17_join_27
    cases o with
    | none =>
      show (if lg_cmp (iL 9223372036854775807) 9223372036854775807 = 0 then _ else _) = _
      rw [eLM, p_c0 (by omega) (by omega) (by omega) (by omega) (by omega)]
      rfl
    | some a =>
      have ha := key a rfl
      show (if lg_cmp (iL (a : Int)) 9223372036854775807 = 0 then _ else _) = some (cA (if v < 1000000000000000 then some (if (0 : Nat) = 0 then (if v ≤ a then a else v) else a + wt * v) else none), u)
      rw [eLM, n_c0 (by omega) (by omega) (by omega) (by omega) (by omega)]
      by_cases hf : v < 1000000000000000
      · rw [iV_f hf, n_c0 (by omega) (by omega) (by omega) (by omega) (by omega), if_pos hf, if_pos rfl, show cA (some a) = iL (a : Int) from rfl]
        unfold f_J9_max_2 f_J9_max_2_11
        by_cases hle : v ≤ a
        · rw [n_cl (by omega) (by omega) (by omega) (by omega) (by omega), q_uc, if_pos hle]
          rfl
        · rw [p_cl (by omega) (by omega) (by omega) (by omega) (by omega), q_uc, if_neg hle]
          rfl
      · rw [iV_n hf, p_c0 (by omega) (by omega) (by omega) (by omega) (by omega), if_neg hf]
        rfl
  · rw [if_pos (v_is j2)]
    unfold f_X16_join f_X16_join_16 f_X16_join_29
    cases o with
    | none =>
      show (if lg_cmp (iL 9223372036854775807) 9223372036854775807 = 0 then _ else _) = _
      rw [eLM, p_c0 (by omega) (by omega) (by omega) (by omega) (by omega)]
      rfl
    | some a =>
      have ha := key a rfl
      show (if lg_cmp (iL (a : Int)) 9223372036854775807 = 0 then _ else _) = some (cA (if v < 1000000000000000 then some (if (1 : Nat) = 0 then (if v ≤ a then a else v) else a + wt * v) else none), u)
      rw [eLM, n_c0 (by omega) (by omega) (by omega) (by omega) (by omega)]
      by_cases hf : v < 1000000000000000
      · rw [iV_f hf, n_c0 (by omega) (by omega) (by omega) (by omega) (by omega), if_pos hf, if_neg (show ¬ (1 : Nat) = 0 by decide), e_i2l (by omega) (by omega)]
        show some (iL (a : Int) + iL (wt : Int) * iL (v : Int), u) = _
        rw [e_mul, e_add]
        show some (iL ((a : Int) + (wt : Int) * (v : Int)), u) = some (iL ((a + wt * v : Nat) : Int), u)
        rw [Int.natCast_add, Int.natCast_mul]
      · rw [iV_n hf, p_c0 (by omega) (by omega) (by omega) (by omega) (by omega), if_neg hf]
        rfl
/-- done numbers of digits have their values -/
def cInv (n : Nat) (Y : Nat → Nat → Nat) (V : Nat → Int64) (D : Nat → Int32) : Prop := ∀ cd, cd < 1024 → (D cd = 0 ∨ D cd = 1) ∧ (D cd = 1 → ∀ d, d < n → V (100 * cd + d) = iV (Y cd d))
/-- numbers of digits with more that is unknown are not touched -/
def cFr (n nd U : Nat) (V : Nat → Int64) (D : Nat → Int32) (V' : Nat → Int64) (D' : Nat → Int32) : Prop := ∀ x, x < 1024 → U < zUk x nd → D' x = D x ∧ ∀ d, d < n → V' (100 * x + d) = V (100 * x + d)
theorem cFr.refl {n nd U : Nat} {V : Nat → Int64} {D : Nat → Int32} : cFr n nd U V D V D := fun _ _ _ => ⟨rfl, fun _ _ => rfl⟩
theorem cFr.trans {n nd U : Nat} {V V1 V2 : Nat → Int64} {D D1 D2 : Nat → Int32} (h1 : cFr n nd U V D V1 D1) (h2 : cFr n nd U V1 D1 V2 D2) : cFr n nd U V D V2 D2 := fun x a b => ⟨((h2 x a b).1).trans (h1 x a b).1, fun d hd => ((h2 x a b).2 d hd).trans ((h1 x a b).2 d hd)⟩
theorem cFr.mono {n nd U U' : Nat} {V V' : Nat → Int64} {D D' : Nat → Int32} (h : cFr n nd U V D V' D') (hu : U ≤ U') : cFr n nd U' V D V' D' := fun x a b => h x a (by omega)
theorem c_seen40 {N b : Nat} {g : uEnv} {u : UH} {la da wa sa : Nat → Nat} {so ja bk : Nat} {v8 v9 v10 : Value} {w h n nd ng go mean cd c e U : Nat} {hts : Nat → Int} {fl nb : Nat → Nat} {dO kn : Nat → Int} {wg Y : Nat → Nat → Nat} {BG : Nat → Nat → Nat → Nat} {rs : UH → Nat → Int32 → Int32 → Int32 → Option (Int64 × UH)} {ro : UH → Nat → Int32 → Int32 → Option (Int64 × UH)} {rv : UH → Nat → Int32 → Option UH} {x3 x3' : Int32} (hX : cCx u g la da wa sa so ja bk v8 v9 v10 w h n nd ng go mean hts fl nb dO kn wg BG) (hcd : cd < 1024) (he : e < nd) (h0 : zD cd e = 0) (hx3 : x3 &&& (x3 - 1) = x3') (hYb : ∀ k, k < zCn (wg e) 8 → Y (cd + (k + 1) * 4 ^ e) c ≤ 1000000000000000) (hrs : ∀ (k : Nat) (V : Nat → Int64) (D P : Nat → Int32), k < zCn (wg e) 8 → cInv n Y V D → ∃ (V' : Nat → Int64) (D' P' : Nat → Int32), rs (kH u sa V D P) so (iI c) (iI ((cd + (k + 1) * 4 ^ e : Nat) : Int)) x3' = some (iV (Y (cd + (k + 1) * 4 ^ e) c), kH u sa V' D' P') ∧ cInv n Y V' D' ∧ cFr n nd U V D V' D') (hN : 9 ≤ N) : ∀ (m q : Nat) (V : Nat → Int64) (D P : Nat → Int32), q ≤ 8 → 8 < q + m → cInv n Y V D → ∃ (V' : Nat → Int64) (D' P' : Nat → Int32), f_X2_seen_40 N b g rs ro rv so m (kH u sa V D P) (iI c) (iI cd) x3 (iI e) (some (da e)) (cA (zAc mean (fun k => wg e (zKd (wg e) k)) (fun k => Y (cd + (k + 1) * 4 ^ e) c) (zCn (wg e) q))) (iI q) = some (cA (zAc mean (fun k => wg e (zKd (wg e) k)) (fun k => Y (cd + (k + 1) * 4 ^ e) c) (zCn (wg e) 8)), kH u sa V' D' P') ∧ cInv n Y V' D' ∧ cFr n nd U V D V' D' := by
  obtain ⟨hO, hL, hi, -, -, -, -, -, -, hJ⟩ := hX
  have hL' := hL
  obtain ⟨l0, hw, hh, hn, hnd, -, -, -, -, -, hdd⟩ := hL
  obtain ⟨⟨d1, wf, d2, d3⟩, d4, d5⟩ := hdd e he
  have w9 : ∀ k, k < zCn (wg e) 8 → wg e (zKd (wg e) k) ≤ 9 := fun k hk => (d3 _ (zKd_ok hk).1).2
  intro m
  induction m with
  | zero => intro q V D P h1 h2; omega
  | succ m ih =>
    intro q V D P h1 h2 hI
    rw [f_X2_seen_40]
    unfold f_X2_seen_98
    rw [j8]
    by_cases hq : q = 8
    · subst hq
      refine ⟨V, D, P, ?_, hI, cFr.refl⟩
      rw [p_le (by omega) (by omega) (by omega) (by omega) (by omega)]
    · have eq : iI (q : Int) + 1 = iI ((q + 1 : Nat) : Int) := by
        rw [j1, i_add]
        rfl
      obtain ⟨w1, w2⟩ := d3 q (by omega)
      have hOk := hO.kH (V := V) (D := D) (P := P) hi
      have hLk := hL'.kH (V := V) (D := D) (P := P) hi
      have Lw : ∀ (V : Nat → Int64) (D P : Nat → Int32), uLdI (kH u sa V D P) (wa e) 0 (iI (q : Int)) = some (iI (wg e q)) := fun V D P => by
        rw [u_ldI (kH_l hi d2 (by decide) (by decide)) (by omega) (by omega) (by omega)]
        exact congrArg some w1
      rw [n_le (by omega) (by omega) (by omega) (by omega) (by omega), p_bs, v_gr (kH_r hi d1) (k := 1) rfl, p_bs, p_bs, Lw, p_bs]
      by_cases hz : wg e q = 0
      · have e2 : zCn (wg e) (q + 1) = zCn (wg e) q := by rw [zCn_s, if_pos hz]; rfl
        rw [if_pos (show iI (wg e q : Int) ≤ 0 by rw [hz]; decide), p_let, eq, ← e2]
        exact ih (q + 1) V D P (by omega) (by omega) hI
      · have e2 : zCn (wg e) (q + 1) = zCn (wg e) q + 1 := by rw [zCn_s, if_neg hz]
        have hle := zCn_le (f := wg e) (g := q + 1) (8 - (q + 1))
        rw [show q + 1 + (8 - (q + 1)) = 8 from by omega] at hle
        have hkl : zCn (wg e) q < zCn (wg e) 8 := by omega
        have hkq : zKd (wg e) (zCn (wg e) q) = q := zKd_at hz (by omega)
        have kw := c_knows (N := N) (b := b) (k := zCn (wg e) q) hOk hLk he hcd hkl h0 hN
        rw [hkq] at kw
        obtain ⟨V1, D1, P1, r1, r2, r3⟩ := hrs (zCn (wg e) q) V D P hkl hI
        have hO1 := hO.kH (V := V1) (D := D1) (P := P1) hi
        have hJ1 : (mean = 0 ∧ (kH u sa V1 D1 P1).2.2 ja = some (.inr (15, []))) ∨ (mean = 1 ∧ (kH u sa V1 D1 P1).2.2 ja = some (.inr (14, []))) := hJ.imp (fun z => ⟨z.1, kH_r hi z.2⟩) (fun z => ⟨z.1, kH_r hi z.2⟩)
        have ab : ∀ a, zAc mean (fun k => wg e (zKd (wg e) k)) (fun k => Y (cd + (k + 1) * 4 ^ e) c) (zCn (wg e) q) = some a → a ≤ 30 * 1000000000000000 := fun a ha => by
          have hac : zAc mean (fun k => if k < zCn (wg e) 8 then wg e (zKd (wg e) k) else 0) (fun k => Y (cd + (k + 1) * 4 ^ e) c) (zCn (wg e) q) = zAc mean (fun k => wg e (zKd (wg e) k)) (fun k => Y (cd + (k + 1) * 4 ^ e) c) (zCn (wg e) q) := by
            have gen : ∀ k, k ≤ zCn (wg e) 8 → zAc mean (fun k => if k < zCn (wg e) 8 then wg e (zKd (wg e) k) else 0) (fun k => Y (cd + (k + 1) * 4 ^ e) c) k = zAc mean (fun k => wg e (zKd (wg e) k)) (fun k => Y (cd + (k + 1) * 4 ^ e) c) k := by
              intro k
              induction k with
              | zero => intro _; rfl
              | succ k ihk =>
                intro hk
                rw [zAc, zAc, ihk (by omega)]
                simp only [if_pos (show k < zCn (wg e) 8 by omega)]
            exact gen _ (by omega)
          have := zAc_b (mean := mean) (wt := fun k => if k < zCn (wg e) 8 then wg e (zKd (wg e) k) else 0) (val := fun k => Y (cd + (k + 1) * 4 ^ e) c) (fun k => by
            show (if k < zCn (wg e) 8 then wg e (zKd (wg e) k) else 0) ≤ 9
            split
            · rename_i hk; exact w9 k hk
            · omega) _ a (hac.trans ha)
          have h3 : zCn (wg e) q ≤ 3 := by omega
          have : 9 * 1000000000000000 * zCn (wg e) q ≤ 9 * 1000000000000000 * 3 := Nat.mul_le_mul_left _ h3
          omega
        have jn := c_join (N := N) (b := b) (g := g) hJ1 ab (hYb _ hkl) w2
        have hac : zAc mean (fun k => wg e (zKd (wg e) k)) (fun k => Y (cd + (k + 1) * 4 ^ e) c) (zCn (wg e) (q + 1)) = zSt mean (Y (cd + (zCn (wg e) q + 1) * 4 ^ e) c) (wg e q) (zAc mean (fun k => wg e (zKd (wg e) k)) (fun k => Y (cd + (k + 1) * 4 ^ e) c) (zCn (wg e) q)) := by
          rw [e2, zAc, hkq]
        rw [if_neg (show ¬ iI (wg e q : Int) ≤ 0 by rw [j0, j_le (by omega) (by omega) (by omega) (by omega)]; omega), v_gr hOk (k := 3) rfl, p_bs, if_pos (v_is hOk), kw, q_uc, if_pos (v_is hOk), hx3, r1, q_uc, v_gr (kH_r hi d1) (k := 1) rfl, p_bs, p_bs, Lw, p_bs, p_bs, jn, q_uc, p_let, eq, ← hac]
        obtain ⟨V2, D2, P2, s1, s2, s3⟩ := ih (q + 1) V1 D1 P1 (by omega) (by omega) r2
        exact ⟨V2, D2, P2, s1, s2, r3.trans s3⟩
