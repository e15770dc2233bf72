/-! PLAIN: the model's solve: for every number of digits that can be its values are the values -/
def zY (V : Nat → Int64) (cd d : Nat) : Nat := (V (100 * cd + d)).toInt.toNat
theorem zY_v {V : Nat → Int64} {cd n : Nat} {X : Nat → Nat} (h : zVs V cd n X) {d : Nat} (hd : d < n) : zY V cd d = X d := by
  obtain ⟨a, b⟩ := h d hd
  unfold zY
  rw [a, e_toInt (by omega) (by omega)]
  omega
def zKc (w h : Nat) (fl : Nat → Nat) (dO : Nat → Int) (kd : Nat → Nat → Nat) (BG : Nat → Nat → Nat → Nat) (cd i : Nat) : Nat := zK w h fl dO kd BG cd (i / 4) (i % 4)
theorem zKc_at {w h : Nat} {fl : Nat → Nat} {dO : Nat → Int} {kd : Nat → Nat → Nat} {BG : Nat → Nat → Nat → Nat} {cd c y : Nat} (hy : y < 4) : zKc w h fl dO kd BG cd (4 * c + y) = zK w h fl dO kd BG cd c y := by
  unfold zKc
  rw [show (4 * c + y) / 4 = c from by omega, show (4 * c + y) % 4 = y from by omega]
/-- the values of one number of digits stand right -/
def zSl (V : Nat → Int64) (w h n nd : Nat) (fl nb mn : Nat → Nat) (dO : Nat → Int) (kd wt : Nat → Nat → Nat) (BG : Nat → Nat → Nat → Nat) (go mean cd : Nat) : Prop := ∃ X : Nat → Nat, zVs V cd n X ∧ (∀ d, d < n → X d < 1000000000000000 → X d ≤ zBd mean nd mn wt cd) ∧ (∀ c, c < n → ¬ zFr nd nb cd go c → X c = zX0 nd nb cd go mean mn wt (zY V) c) ∧ ∀ c, c < n → zFr nd nb cd go c → zB X (zEd w h (zSc mean nd mn wt cd) (zKc w h fl dO kd BG cd)) c
theorem zX0_same {V V' : Nat → Int64} {nd cd go mean c n : Nat} {nb mn : Nat → Nat} {wt : Nat → Nat → Nat} (hc : c < n) (h : ∀ cd' d, cd < cd' → d < n → V' (100 * cd' + d) = V (100 * cd' + d)) : zX0 nd nb cd go mean mn wt (zY V') c = zX0 nd nb cd go mean mn wt (zY V) c := by
  unfold zX0
  have e : ∀ q : Nat, (fun k => zY V' (cd + (k + 1) * 4 ^ q) c) = fun k => zY V (cd + (k + 1) * 4 ^ q) c := fun q => by
    funext k
    have hp : 0 < 4 ^ q := Nat.pos_of_ne_zero (by simp)
    have hq : 0 < (k + 1) * 4 ^ q := Nat.mul_pos (by omega) hp
    unfold zY
    rw [h _ c (by omega) hc]
  rw [e]
theorem zSl.same {V V' : Nat → Int64} {w h n nd : Nat} {fl nb mn : Nat → Nat} {dO : Nat → Int} {kd wt : Nat → Nat → Nat} {BG : Nat → Nat → Nat → Nat} {go mean cd : Nat} (hs : zSl V w h n nd fl nb mn dO kd wt BG go mean cd) (hV : ∀ cd' d, cd ≤ cd' → d < n → V' (100 * cd' + d) = V (100 * cd' + d)) : zSl V' w h n nd fl nb mn dO kd wt BG go mean cd := by
  obtain ⟨X, a1, a2, a3, a4⟩ := hs
  refine ⟨X, fun d hd => ?_, a2, fun c hc hf => ?_, a4⟩
  · rw [hV cd d (Nat.le_refl _) hd]
    exact a1 d hd
  · rw [zX0_same hc (fun cd' d h1 h2 => hV cd' d (by omega) h2)]
    exact a3 c hc hf
theorem zEd_ok {w h n sc E : Nat} {K : Nat → Nat} (hw : 1 ≤ w ∧ w ≤ 10) (hh : 1 ≤ h ∧ h ≤ 10) (hn : n = w * h) (hsc : 1 ≤ sc) (hK : ∀ c y, c < n → y < 4 → K (4 * c + y) ≤ E ∧ (K (4 * c + y) ≠ 0 → 0 ≤ besI w h c y)) (c y d k : Nat) (hc : c < n) (he : zEd w h sc K c y = some (d, k)) : d < n ∧ 1 ≤ k ∧ k ≤ sc * E := by
  unfold zEd at he
  by_cases hz : y < 4 ∧ K (4 * c + y) ≠ 0
  · rw [if_pos hz] at he
    obtain ⟨k1, k2⟩ := hK c y hc hz.1
    have k3 := k2 hz.2
    have e1 : (besI w h c y).toNat = d := congrArg Prod.fst (Option.some.inj he)
    have e2 : sc * K (4 * c + y) = k := congrArg Prod.snd (Option.some.inj he)
    have p1 : 0 < sc * K (4 * c + y) := Nat.mul_pos hsc (Nat.pos_of_ne_zero hz.2)
    have p2 : sc * K (4 * c + y) ≤ sc * E := Nat.mul_le_mul_left _ k1
    rcases bes_b (w := w) (h := h) (c := c) (d := y) hw hh with hb | ⟨-, hb1, -⟩
    · omega
    · rw [← hn] at hb1
      omega
  · rw [if_neg hz] at he
    cases he
theorem m_47 {N : Nat} {s1 : Nat → Int32} {s2 : Nat → Nat → Int32} {w h n nd ng go mean : Nat} {fl nb mn : Nat → Nat} {dO kn : Nat → Int} {kd wt : Nat → Nat → Nat} {BG : Nat → Nat → Nat → Nat} (hB : zBs s1 s2 w h n nd ng fl nb mn dO kn kd wt BG) (hgo : go < n) (hm : mean = 0 ∨ mean = 1) (hN : 200000000000000000 ≤ N) : ∀ (m j : Nat) (R : Nat → Int32) (V : Nat → Int64), j ≤ 1024 → j < m → (∀ cd, j ≤ cd → cd < 1024 → zCan nd mn kn kd cd → zSl V w h n nd fl nb mn dO kd wt BG go mean cd) →
    ∃ (R' : Nat → Int32) (V' : Nat → Int64), f_solve_47 N m (s1, zRow s2 70 R, V) (iI go) (iI mean) (iI ((j : Int) - 1)) = some (s1, zRow s2 70 R', V') ∧ ∀ cd, cd < 1024 → zCan nd mn kn kd cd → zSl V' w h n nd fl nb mn dO kd wt BG go mean cd := by
  obtain ⟨hF, hK, hnb, hwt, hmn1, hBG⟩ := hB
  have hF' := hF
  have hK' := hK
  obtain ⟨e1, e2, hw, hh, hn, hnd, hng, hfl, hkd, hmn3, hBGv⟩ := hF
  obtain ⟨e3, -, -, hkk⟩ := hK
  have m4 : w * h ≤ 10 * 10 := Nat.mul_le_mul hw.2 hh.2
  intro m
  induction m with
  | zero => intro j R V h1 h2; omega
  | succ m ih =>
    intro j R V h1 h2 hS
    rw [f_solve_47, j0]
    by_cases hj : j = 0
    · subst hj
      refine ⟨R, V, ?_, fun cd hcd hz => hS cd (by omega) hcd hz⟩
      rw [p_lt (by omega) (by omega) (by omega) (by omega) (by omega)]
    · obtain ⟨cd, rfl⟩ : ∃ cd, j = cd + 1 := ⟨j - 1, by omega⟩
      have hcd : cd < 1024 := by omega
      have ec : (((cd + 1 : Nat) : Int) - 1) = (cd : Int) := by omega
      rw [ec, n_lt (by omega) (by omega) (by omega) (by omega) (by omega)]
      obtain ⟨r, c1, c2⟩ := m_can (N := N) (s1 := s1) (s2 := zRow s2 70 R) (V := V) (cd := cd) hK' hcd (by omega)
      rw [c1, q_mc]
      rcases c2 with ⟨rfl, hz⟩ | ⟨rfl, hz⟩
      · rw [if_neg (show ¬ (1 : Int32) = iI 0 by decide)]
        have hdg : ∀ e, e < nd → zD cd e ≤ mn e := fun e he => ((hz e (by omega)).2 he).1
        obtain ⟨R1, l1, l2⟩ := m_lays (N := N) (V := V) (R := R) hF' hcd hdg (by omega)
        rw [l1, q_mv]
        have hzK : ∀ c y, c < n → y < 4 → zKc w h fl dO kd BG cd (4 * c + y) ≤ 30071 ∧ (zKc w h fl dO kd BG cd (4 * c + y) ≠ 0 → 0 ≤ besI w h c y) := fun c y hc hy => by
          rw [zKc_at hy]
          unfold zK
          by_cases q1 : besI w h c y < 0
          · rw [if_pos q1]; exact ⟨by omega, fun z => absurd rfl z⟩
          · rw [if_neg q1]
            refine ⟨?_, fun _ => by omega⟩
            rcases bes_b (w := w) (h := h) (c := c) (d := y) hw hh with hb | ⟨-, hb1, -⟩
            · omega
            · rw [← hn] at hb1
              obtain ⟨-, f2, -, f4, f5⟩ := hfl (besI w h c y).toNat (by omega)
              by_cases q2 : dO (besI w h c y).toNat = -1
              · rw [if_pos q2]; exact hBG c y _ hc hy f2
              · rw [if_neg q2]
                by_cases q3 : zD cd (dO (besI w h c y).toNat).toNat = 0
                · rw [if_pos q3]; omega
                · rw [if_neg q3]
                  have dl : (dO (besI w h c y).toNat).toNat < nd := by omega
                  have := hdg _ dl
                  exact hBG c y _ hc hy (hkd _ _ dl (by omega)).2
        have hC : zCx s1 (zRow s2 70 R1) w h n nd nb (zKc w h fl dO kd BG cd) := by
          refine ⟨e1, e2, hw, hh, hn, e3, hnd, fun c hc => hnb c hc, fun c y hc hy => ⟨?_, ?_, (hzK c y hc hy).2⟩⟩
          · rw [zKc_at hy]
            exact l2 c y hc hy
          · have := (hzK c y hc hy).1
            omega
        have hD : zDb N s1 (zRow s2 70 R1) nd mn wt := fun e he => by
          obtain ⟨k1, k2, -, -, -, k6⟩ := hkk e he
          refine ⟨k1, ⟨hmn1 e he, k2⟩, fun k hk => ⟨fun V => ?_, (hwt e k he hk).2⟩⟩
          obtain ⟨g1, g2⟩ := k6 k hk
          exact m_wt (σ := (s1, zRow s2 70 R1, V)) (kd := kd e k) (by omega) (by omega) g1 (by omega) (hwt e k he hk).1
        have up : ∀ e k, e < nd → zD cd e = 0 → k < mn e → cd + (k + 1) * 4 ^ e < 1024 ∧ cd < cd + (k + 1) * 4 ^ e ∧ zSl V w h n nd fl nb mn dO kd wt BG go mean (cd + (k + 1) * 4 ^ e) := fun e k he h0 hk => by
          have k2 := hmn3 e he
          have u1 := (zD_up (k := k) hcd (by omega : e < 5) (by omega) h0).1
          have hp : 0 < 4 ^ e := Nat.pos_of_ne_zero (by simp)
          have hq : 0 < (k + 1) * 4 ^ e := Nat.mul_pos (by omega) hp
          exact ⟨u1, by omega, hS _ (by omega) u1 (zCan_up hz hcd hnd he k2 hk h0)⟩
        have hYv : ∀ e k d, e < nd → zD cd e = 0 → k < mn e → d < n → V (100 * (cd + (k + 1) * 4 ^ e) + d) = iL (zY V (cd + (k + 1) * 4 ^ e) d) ∧ zY V (cd + (k + 1) * 4 ^ e) d ≤ 1000000000000000 ∧ (zY V (cd + (k + 1) * 4 ^ e) d < 1000000000000000 → zY V (cd + (k + 1) * 4 ^ e) d ≤ zBd mean nd mn wt (cd + (k + 1) * 4 ^ e)) := fun e k d he h0 hk hd => by
          obtain ⟨X, a1, a2, -, -⟩ := (up e k he h0 hk).2.2
          rw [zY_v a1 hd]
          exact ⟨(a1 d hd).1, (a1 d hd).2, a2 d hd⟩
        obtain ⟨V1, i1, i2, i3⟩ := m_70 (N := N) (k47 := f_solve_47 N m) (Y := zY V) hC hD hcd hgo (by omega) hm N 0 V (by omega) (by omega) (fun e k d he h0 hk hd => ⟨(hYv e k d he h0 hk hd).1, (hYv e k d he h0 hk hd).2.1⟩)
        have hmw : ∀ e, e < nd → 1 ≤ mn e ∧ mn e ≤ 3 := fun e he => ⟨hmn1 e he, hmn3 e he⟩
        have hw9 : ∀ e k, e < nd → k < mn e → 1 ≤ wt e k ∧ wt e k ≤ 9 := fun e k he hk => (hwt e k he hk).2
        have scb := zSc_b (mean := mean) (cd := cd) hnd hmw hw9
        have bdb := zBd_b (mean := mean) (cd := cd) hnd hmw hw9
        -- the first values
        have hX0 : ∀ c, c < n → zX0 nd nb cd go mean mn wt (zY V) c = 1000000000000000 ∨ zX0 nd nb cd go mean mn wt (zY V) c ≤ zUk cd nd * (3007100 * zSc mean nd mn wt cd) := fun c hc => by
          unfold zX0
          by_cases q1 : c = go
          · rw [if_pos q1]; exact Or.inr (Nat.zero_le _)
          · rw [if_neg q1]
            by_cases q2 : zNw nd (nb c) cd (nd + 1) 0 = -1
            · rw [if_pos q2]; exact Or.inl rfl
            · obtain ⟨e, p1, p2, p3, p4⟩ := zNw_s _ _ q2
              rw [if_neg q2, p1]
              have hzs := zSum_27 (hmw e p2) (fun k hk => hw9 e k p2 hk)
              exact z_new (e := e) hcd hnd p2 (hmn3 e p2) hzs.1 p3 hm (fun k hk hf => (hYv e k c p2 p3 hk hc).2.2 hf)
        have hle : zUk cd nd * (3007100 * zSc mean nd mn wt cd) ≤ zBd mean nd mn wt cd := Nat.mul_le_mul_right _ (by omega)
        have hV1 : zVs V1 cd n (zX0 nd nb cd go mean mn wt (zY V)) := fun d hd => ⟨i3 d (by omega) hd, by rcases hX0 d hd with q | q <;> omega⟩
        have hfr : ∀ d, zFr nd nb cd go d → zX0 nd nb cd go mean mn wt (zY V) d = 1000000000000000 := fun d hf => by
          unfold zX0
          rw [if_neg hf.1, if_pos hf.2]
        have hsum := zSum_b (X := zX0 nd nb cd go mean mn wt (zY V)) (M := 1000000000000000) n (fun d hd => (hV1 d hd).2)
        have hsum2 : n * 1000000000000000 ≤ 100 * 1000000000000000 := Nat.mul_le_mul_right _ (by omega)
        obtain ⟨V2, X2, o1, o2, o3, o4, o5⟩ := m_161 (N := N) (x2 := iI mean) (k47 := f_solve_47 N m) (sc := zSc mean nd mn wt cd) hC hcd scb.2 hgo (by omega) N V1 (zX0 nd nb cd go mean mn wt (zY V)) (by omega) hV1 (fun d hd hf => ⟨(hV1 d hd).2, fun z => by rw [hfr d hf] at z; omega⟩)
        have hag : ∀ cd' d, cd < cd' → d < n → V2 (100 * cd' + d) = V (100 * cd' + d) := fun cd' d h1 h2 => by
          rw [o3 _ (fun d' h3 => by omega), i2 _ (fun d' _ h3 => by omega)]
        have hcur : zSl V2 w h n nd fl nb mn dO kd wt BG go mean cd := by
          refine ⟨X2, o2, fun d hd hf => ?_, fun c hc hf => ?_, o5⟩
          · have hb := z_bd (n := n) (X := X2) (fr := zFr nd nb cd go) (B := zUk cd nd * (3007100 * zSc mean nd mn wt cd)) (E := zSc mean nd mn wt cd * 30071) (zEd_ok hw hh hn scb.1 hzK) o5 (fun c hc hnf hlt => by
              rw [o4 c (fun _ => hnf)] at hlt ⊢
              rcases hX0 c hc with q | q
              · omega
              · exact q) d hd hf
            have hq : n * (zSc mean nd mn wt cd * 30071) ≤ 100 * (zSc mean nd mn wt cd * 30071) := Nat.mul_le_mul_right _ (by omega)
            unfold zBd
            rw [Nat.add_mul, Nat.one_mul]
            omega
          · rw [o4 c (fun _ => hf)]
            exact (zX0_same hc (fun cd' d h1 h2 => hag cd' d h1 h2)).symm
        obtain ⟨R3, V3, t1, t2⟩ := ih cd R1 V2 (by omega) (by omega) (fun cd' h1 h2 h3 => by
          by_cases x : cd' = cd
          · rw [x]; exact hcur
          · exact (hS cd' (by omega) h2 h3).same (fun c'' d q1 q2 => hag c'' d (by omega) q2))
        refine ⟨R3, V3, ?_, t2⟩
        rw [show iI 0 = iI ((0 : Nat) : Int) from rfl, i1]
        unfold f_solve_156
        exact o1.trans t1
      · rw [if_pos (show (0 : Int32) = iI 0 from rfl)]
        unfold f_solve_270
        obtain ⟨R3, V3, t1, t2⟩ := ih cd R V (by omega) (by omega) (fun cd' h1 h2 h3 => by
          by_cases x : cd' = cd
          · subst x
            obtain ⟨q, q1, q2⟩ := hz
            exact absurd (h3 q q1) q2
          · exact hS cd' (by omega) h2 h3)
        refine ⟨R3, V3, ?_, t2⟩
        rw [p_let, j_m1, i_add]
        exact t1
