/-! PLAIN: the model's rounds over a map for one number of digits -/
def zS (X : Nat → Nat) (c v : Nat) : Nat → Nat := fun d => if d = c then v else X d
theorem zS_s {X : Nat → Nat} {c v : Nat} : zS X c v c = v := if_pos rfl
theorem zS_n {X : Nat → Nat} {c v d : Nat} (h : d ≠ c) : zS X c v d = X d := if_neg h
def zSum (X : Nat → Nat) : Nat → Nat
  | 0 => 0
  | n + 1 => zSum X n + X n
theorem zSum_le {X Y : Nat → Nat} (h : ∀ d, Y d ≤ X d) : ∀ n, zSum Y n ≤ zSum X n := by
  intro n
  induction n with
  | zero => exact Nat.le_refl _
  | succ n ih =>
    have := h n
    simp only [zSum]
    omega
theorem zSum_lt {X Y : Nat → Nat} (h : ∀ d, Y d ≤ X d) {d : Nat} (hd : Y d < X d) : ∀ n, d < n → zSum Y n < zSum X n := by
  intro n
  induction n with
  | zero => intro h; omega
  | succ n ih =>
    intro hn
    simp only [zSum]
    by_cases e : d = n
    · subst e
      have := zSum_le h d
      omega
    · have := ih (by omega)
      have := h n
      omega
theorem zSum_b {X : Nat → Nat} {M : Nat} : ∀ n, (∀ d, d < n → X d ≤ M) → zSum X n ≤ n * M := by
  intro n
  induction n with
  | zero => intro _; simp only [zSum]; omega
  | succ n ih =>
    intro h
    simp only [zSum]
    have := ih (fun d hd => h d (by omega))
    have := h n (by omega)
    rw [Nat.succ_mul]
    omega
/-- what stands fast while a number of digits is solved: sides, doubts, what is seen, costs of steps -/
def zCx (s1 : Nat → Int32) (s2 : Nat → Nat → Int32) (w h n nd : Nat) (nb K : Nat → Nat) : Prop := s1 35 = iI w ∧ s1 36 = iI h ∧ (1 ≤ w ∧ w ≤ 10) ∧ (1 ≤ h ∧ h ≤ 10) ∧ n = w * h ∧ s1 37 = iI nd ∧ nd ≤ 5 ∧ (∀ c, c < n → s2 72 c = iI (nb c) ∧ nb c < 32) ∧ ∀ c y, c < n → y < 4 → s2 70 (4 * c + y) = iI (K (4 * c + y)) ∧ K (4 * c + y) ≤ 1001001 ∧ (K (4 * c + y) ≠ 0 → 0 ≤ besI w h c y)
def zVs (V : Nat → Int64) (cd n : Nat) (X : Nat → Nat) : Prop := ∀ d, d < n → V (100 * cd + d) = iL (X d) ∧ X d ≤ 1000000000000000
/-- free: not the goal, nothing new to be seen -/
def zFr (nd : Nat) (nb : Nat → Nat) (cd go c : Nat) : Prop := c ≠ go ∧ zNw nd (nb c) cd (nd + 1) 0 = -1
theorem m_172 {N : Nat} {s1 : Nat → Int32} {s2 : Nat → Nat → Int32} {w h n nd cd sc go : Nat} {nb K : Nat → Nat} {x2 : Int32} {k47 : MS → Int32 → Int32 → Int32 → Option MS} {k161 : MS → Int32 → Int32 → Int32 → Int64 → Int32 → Option MS} (hC : zCx s1 s2 w h n nd nb K) (hcd : cd < 1024) (hsc : sc ≤ 14348907) (hgo : go < n) (hN : 6 ≤ N) : ∀ (m c fl : Nat) (V : Nat → Int64) (X : Nat → Nat), c ≤ n → n < c + m → (fl = 0 ∨ fl = 1) → zVs V cd n X → (∀ d, d < n → zFr nd nb cd go d → zUp X (zEd w h sc K) d) →
    ∃ (V' : Nat → Int64) (X' : Nat → Nat) (fl' : Nat), f_solve_172 N k47 k161 m (s1, s2, V) (iI go) x2 (iI cd) (iL sc) (iI fl) (iI c) = k161 (s1, s2, V') (iI go) x2 (iI cd) (iL sc) (iI fl') ∧ zVs V' cd n X' ∧ (∀ i, (∀ d, d < n → i ≠ 100 * cd + d) → V' i = V i) ∧ (∀ d, X' d ≤ X d) ∧ (∀ d, (d < n → ¬ zFr nd nb cd go d) → X' d = X d) ∧ (∀ d, d < n → zFr nd nb cd go d → zUp X' (zEd w h sc K) d) ∧ (fl' = 0 ∨ fl' = 1) ∧ (fl' = 0 → fl = 0 ∧ X' = X ∧ ∀ d, c ≤ d → d < n → zFr nd nb cd go d → ∀ y e k, zEd w h sc K d y = some (e, k) → X e < 1000000000000000 → X d ≤ X e + k) ∧ (fl' = 1 → fl = 1 ∨ ∃ d, d < n ∧ X' d < X d) := by
  obtain ⟨e1, e2, hw, hh, hn, e3, hnd, hnb, hK⟩ := hC
  intro m
  induction m with
  | zero => intro c fl V X h1 h2; omega
  | succ m ih =>
    intro c fl V X h1 h2 hfl hV hU
    rw [f_solve_172]
    show ∃ (V' : Nat → Int64) (X' : Nat → Nat) (fl' : Nat), (if (s1 35 * s1 36) ≤ iI c then _ else _) = _ ∧ _
    have m4 : w * h ≤ 10 * 10 := Nat.mul_le_mul hw.2 hh.2
    have hwh : s1 35 * s1 36 = iI (n : Int) := by
      rw [e1, e2, i_mul, hn, Int.natCast_mul]
    rw [hwh]
    by_cases hc : n ≤ c
    · refine ⟨V, X, fl, by rw [p_le (by omega) (by omega) (by omega) (by omega) (by omega)], hV, fun i _ => rfl, fun d => Nat.le_refl _, fun d _ => rfl, hU, hfl, fun z => ⟨z, rfl, fun d d1 d2 => by omega⟩, fun z => Or.inl z⟩
    · have en : iI (c : Int) + 1 = iI ((c + 1 : Nat) : Int) := by
        rw [j1, i_add]
        rfl
      have skip : ¬ zFr nd nb cd go c → ∃ (V' : Nat → Int64) (X' : Nat → Nat) (fl' : Nat), f_solve_172 N k47 k161 m (s1, s2, V) (iI go) x2 (iI cd) (iL sc) (iI fl) (iI ((c + 1 : Nat) : Int)) = k161 (s1, s2, V') (iI go) x2 (iI cd) (iL sc) (iI fl') ∧ zVs V' cd n X' ∧ (∀ i, (∀ d, d < n → i ≠ 100 * cd + d) → V' i = V i) ∧ (∀ d, X' d ≤ X d) ∧ (∀ d, (d < n → ¬ zFr nd nb cd go d) → X' d = X d) ∧ (∀ d, d < n → zFr nd nb cd go d → zUp X' (zEd w h sc K) d) ∧ (fl' = 0 ∨ fl' = 1) ∧ (fl' = 0 → fl = 0 ∧ X' = X ∧ ∀ d, c ≤ d → d < n → zFr nd nb cd go d → ∀ y e k, zEd w h sc K d y = some (e, k) → X e < 1000000000000000 → X d ≤ X e + k) ∧ (fl' = 1 → fl = 1 ∨ ∃ d, d < n ∧ X' d < X d) := fun hnf => by
        obtain ⟨V', X', fl', a1, a2, a3, a4, a5, a6, a7, a8, a9⟩ := ih (c + 1) fl V X (by omega) (by omega) hfl hV hU
        refine ⟨V', X', fl', a1, a2, a3, a4, a5, a6, a7, fun z => ?_, a9⟩
        obtain ⟨b1, b2, b3⟩ := a8 z
        refine ⟨b1, b2, fun d d1 d2 d3 => ?_⟩
        by_cases e : d = c
        · rw [e] at d3
          exact absurd d3 hnf
        · exact b3 d (by omega) d2 d3
      unfold f_solve_240 f_solve_245 f_solve_261
      rw [n_le (by omega) (by omega) (by omega) (by omega) (by omega)]
      by_cases hg : c = go
      · rw [p_eq (by omega) (by omega) (by omega) (by omega) (by omega), p_let, en]
        exact skip (fun z => z.1 hg)
      · have zb := zNw_b (nb := nb c) (cd := cd) hnd (nd + 1) 0
        have nw := m_new (N := N) (σ := (s1, s2, V)) (c := c) e3 hnd hcd (by omega) (hnb c (by omega)).1 (hnb c (by omega)).2 hN
        rw [n_eq (by omega) (by omega) (by omega) (by omega) (by omega), nw, q_mc, j_m1]
        by_cases hnw : zNw nd (nb c) cd (nd + 1) 0 = -1
        · have hfr : zFr nd nb cd go c := ⟨hg, hnw⟩
          have lw := m_low (N := N) (σ := (s1, s2, V)) (K := K) (X := X) e1 e2 hw hh hn hcd (by omega : c < n) hV (fun y hy => hK c y (by omega) hy) hsc (by omega)
          obtain ⟨l1, l2, l3⟩ := z_low (X := X) (ed := zEd w h sc K c) 4 0 (X c)
          obtain ⟨v1, v2⟩ := hV c (by omega)
          obtain ⟨i3, i4⟩ := t_ix (a := 100 * (cd : Int) + (c : Int)) (n := 102400) (k := 100 * cd + c) (by omega) (by omega) (by decide)
          rw [p_eq (by omega) (by omega) (by omega) (by omega) (by omega), lw, q_mc]
          generalize zLow X (zEd w h sc K c) 4 0 (X c) = low at l1 l2 l3 ⊢
          -- what is stored
          have hV1 : zVs (vp_updL V (100 * cd + c) (iL low)) cd n (zS X c low) := fun d hd => by
            unfold vp_updL
            by_cases e : d = c
            · rw [e, if_pos rfl, zS_s]
              exact ⟨rfl, by omega⟩
            · rw [if_neg (by omega), zS_n e]
              exact hV d hd
          have hle : ∀ d, zS X c low d ≤ X d := fun d => by
            by_cases e : d = c
            · rw [e, zS_s]; exact l1
            · rw [zS_n e]; exact Nat.le_refl _
          have hU1 : ∀ d, d < n → zFr nd nb cd go d → zUp (zS X c low) (zEd w h sc K) d := fun d hd hf => by
            by_cases e : d = c
            · subst e
              by_cases hlt : low < X d
              · obtain ⟨y, e, k, f1, f2, f3⟩ := l3 hlt
                refine ⟨by rw [zS_s]; omega, fun _ => ⟨y, e, k, f1, Nat.lt_of_le_of_lt (hle e) f2, ?_⟩⟩
                have := hle e
                rw [zS_s]
                omega
              · have : low = X d := by omega
                exact (hU d hd hf).mono hle (by rw [zS_s]; exact this)
            · exact (hU d hd hf).mono hle (zS_n e)
          have fin : ∀ fl1 : Nat, (fl1 = 0 ∨ fl1 = 1) → (fl1 = 0 → fl = 0 ∧ X c ≤ low) → (fl1 = 1 → fl = 1 ∨ low < X c) → ∃ (V' : Nat → Int64) (X' : Nat → Nat) (fl' : Nat), f_solve_172 N k47 k161 m (s1, s2, vp_updL V (100 * cd + c) (iL low)) (iI go) x2 (iI cd) (iL sc) (iI fl1) (iI ((c + 1 : Nat) : Int)) = k161 (s1, s2, V') (iI go) x2 (iI cd) (iL sc) (iI fl') ∧ zVs V' cd n X' ∧ (∀ i, (∀ d, d < n → i ≠ 100 * cd + d) → V' i = V i) ∧ (∀ d, X' d ≤ X d) ∧ (∀ d, (d < n → ¬ zFr nd nb cd go d) → X' d = X d) ∧ (∀ d, d < n → zFr nd nb cd go d → zUp X' (zEd w h sc K) d) ∧ (fl' = 0 ∨ fl' = 1) ∧ (fl' = 0 → fl = 0 ∧ X' = X ∧ ∀ d, c ≤ d → d < n → zFr nd nb cd go d → ∀ y e k, zEd w h sc K d y = some (e, k) → X e < 1000000000000000 → X d ≤ X e + k) ∧ (fl' = 1 → fl = 1 ∨ ∃ d, d < n ∧ X' d < X d) := fun fl1 q1 q2 q3 => by
            obtain ⟨V', X', fl', a1, a2, a3, a4, a5, a6, a7, a8, a9⟩ := ih (c + 1) fl1 _ _ (by omega) (by omega) q1 hV1 hU1
            refine ⟨V', X', fl', a1, a2, fun i hi => ?_, fun d => Nat.le_trans (a4 d) (hle d), fun d hd => ?_, a6, a7, fun z => ?_, fun z => ?_⟩
            · rw [a3 i hi]
              unfold vp_updL
              rw [if_neg (hi c (by omega))]
            · rw [a5 d hd]
              exact zS_n (fun e => hd (by omega) (e ▸ hfr))
            · obtain ⟨b1, b2, b3⟩ := a8 z
              obtain ⟨b4, b5⟩ := q2 b1
              have hXX : zS X c low = X := by
                funext d
                by_cases e : d = c
                · rw [e, zS_s]; omega
                · exact zS_n e
              rw [hXX] at b2 b3
              refine ⟨b4, b2, fun d d1 d2 d3 y e k f1 f2 => ?_⟩
              by_cases e' : d = c
              · subst e'
                have hy4 : y < 4 := by
                  apply Classical.byContradiction
                  intro hny
                  have : zEd w h sc K d y = none := if_neg (fun z => hny z.1)
                  rw [this] at f1
                  cases f1
                have := l2 y e k (by omega) (by omega) f1 f2
                omega
              · exact b3 d (by omega) d2 d3 y e k f1 f2
            · rcases a9 z with b1 | ⟨d, b1, b2⟩
              · rcases q3 b1 with b2 | b2
                · exact Or.inl b2
                · refine Or.inr ⟨c, by omega, ?_⟩
                  have := a4 c
                  rw [zS_s] at this
                  omega
              · exact Or.inr ⟨d, b1, Nat.lt_of_lt_of_le b2 (hle d)⟩
          rw [j100, i_mul, i_add]
          by_cases hf0 : fl = 0
          · rw [if_pos (show iI (fl : Int) = 0 by rw [hf0]; rfl), if_pos i3, p_let, i4]
            show ∃ (V' : Nat → Int64) (X' : Nat → Nat) (fl' : Nat), (if 0 ≤ lg_cmp (iL low) (V (100 * cd + c)) then _ else _) = _ ∧ _
            rw [v1]
            by_cases hlt : low < X c
            · rw [n_cg (by omega) (by omega) (by omega) (by omega) (by omega), if_pos i3, p_let, p_let, en]
              exact fin 1 (Or.inr rfl) (fun z => by cases z) (fun _ => Or.inr hlt)
            · rw [p_cg (by omega) (by omega) (by omega) (by omega) (by omega), if_pos i3, p_let, p_let, en]
              exact fin 0 (Or.inl rfl) (fun _ => ⟨hf0, by omega⟩) (fun z => by cases z)
          · rw [if_neg (show ¬ iI (fl : Int) = 0 by rw [j0, j_eq (by omega) (by omega) (by omega) (by omega)]; omega), if_pos i3, p_let, p_let, i4, en]
            exact fin 1 (Or.inr rfl) (fun z => by cases z) (fun _ => Or.inl (by omega))
        · rw [n_eq (by omega) (by omega) (by omega) (by omega) (by omega), p_let, en]
          exact skip (fun z => hnw z.2)
theorem m_161 {N : Nat} {s1 : Nat → Int32} {s2 : Nat → Nat → Int32} {w h n nd cd sc go : Nat} {nb K : Nat → Nat} {x2 : Int32} {k47 : MS → Int32 → Int32 → Int32 → Option MS} (hC : zCx s1 s2 w h n nd nb K) (hcd : cd < 1024) (hsc : sc ≤ 14348907) (hgo : go < n) (hN : 101 ≤ N) : ∀ (m : Nat) (V : Nat → Int64) (X : Nat → Nat), zSum X n + 1 < m → zVs V cd n X → (∀ d, d < n → zFr nd nb cd go d → zUp X (zEd w h sc K) d) →
    ∃ (V' : Nat → Int64) (X' : Nat → Nat), f_solve_161 N k47 m (s1, s2, V) (iI go) x2 (iI cd) (iL sc) (iI 1) = k47 (s1, s2, V') (iI go) x2 (iI ((cd : Int) - 1)) ∧ zVs V' cd n X' ∧ (∀ i, (∀ d, d < n → i ≠ 100 * cd + d) → V' i = V i) ∧ (∀ d, (d < n → ¬ zFr nd nb cd go d) → X' d = X d) ∧ ∀ d, d < n → zFr nd nb cd go d → zB X' (zEd w h sc K) d := by
  have hC' := hC
  obtain ⟨e1, e2, hw, hh, hn, e3, hnd, hnb, hK⟩ := hC
  have m4 : w * h ≤ 10 * 10 := Nat.mul_le_mul hw.2 hh.2
  intro m
  induction m with
  | zero => intro V X h1; omega
  | succ m ih =>
    intro V X h1 hV hU
    rw [f_solve_161, if_neg (show ¬ iI 1 = 0 by decide)]
    obtain ⟨V', X', fl', a1, a2, a3, a4, a5, a6, a7, a8, a9⟩ := m_172 (N := N) (x2 := x2) (k47 := k47) (k161 := f_solve_161 N k47 m) hC' hcd hsc hgo (by omega) N 0 0 V X (by omega) (by omega) (Or.inl rfl) hV hU
    rw [show (0 : Int32) = iI ((0 : Nat) : Int) from rfl, a1]
    rcases a7 with z | z
    · subst z
      obtain ⟨b1, b2, b3⟩ := a8 rfl
      subst b2
      obtain ⟨m', rfl⟩ : ∃ m', m = m' + 1 := ⟨m - 1, by omega⟩
      refine ⟨V', X', ?_, a2, a3, a5, fun d hd hf => (a6 d hd hf).done (fun y e k f1 f2 => b3 d (by omega) hd hf y e k f1 f2)⟩
      rw [f_solve_161, if_pos (show iI ((0 : Nat) : Int) = 0 from rfl)]
      unfold f_solve_270
      rw [p_let, j_m1, i_add]
      rfl
    · subst z
      rcases a9 rfl with b1 | ⟨d, b1, b2⟩
      · cases b1
      · have := zSum_lt a4 b2 n b1
        obtain ⟨V2, X2, c1, c2, c3, c4, c5⟩ := ih V' X' (by omega) a2 a6
        exact ⟨V2, X2, c1, c2, fun i hi => (c3 i hi).trans (a3 i hi), fun d hd => (c4 d hd).trans (a5 d hd), c5⟩
