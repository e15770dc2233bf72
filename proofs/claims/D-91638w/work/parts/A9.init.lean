/-! PLAIN: the model's first values of one number of digits -/
theorem zNw_s {nd nb cd : Nat} : ∀ (m d : Nat), zNw nd nb cd m d ≠ -1 → ∃ e : Nat, zNw nd nb cd m d = e ∧ e < nd ∧ zD cd e = 0 ∧ nb / 2 ^ e % 2 = 1 := by
  intro m
  induction m with
  | zero => intro d h; rw [zNw] at h; exact absurd rfl h
  | succ m ih =>
    intro d h
    rw [zNw] at h ⊢
    by_cases h1 : nd ≤ d
    · rw [if_pos h1] at h; exact absurd rfl h
    · rw [if_neg h1] at h ⊢
      by_cases h2 : zD cd d = 0 ∧ nb / 2 ^ d % 2 = 1
      · rw [if_pos h2]; exact ⟨d, rfl, by omega, h2.1, h2.2⟩
      · rw [if_neg h2] at h ⊢; exact ih (d + 1) h
theorem zD_upF : ∀ cd : Fin 1024, ∀ d : Fin 5, ∀ k : Fin 3, zD cd.1 d.1 = 0 → cd.1 + (k.1 + 1) * 4 ^ d.1 < 1024 ∧ zD (cd.1 + (k.1 + 1) * 4 ^ d.1) d.1 = k.1 + 1 ∧ ∀ e : Fin 5, e ≠ d → zD (cd.1 + (k.1 + 1) * 4 ^ d.1) e.1 = zD cd.1 e.1 := by decide +kernel
theorem zD_up {cd d k : Nat} (h1 : cd < 1024) (h2 : d < 5) (h3 : k < 3) (h : zD cd d = 0) : cd + (k + 1) * 4 ^ d < 1024 ∧ zD (cd + (k + 1) * 4 ^ d) d = k + 1 ∧ ∀ e, e < 5 → e ≠ d → zD (cd + (k + 1) * 4 ^ d) e = zD cd e := by
  obtain ⟨a, b, c⟩ := zD_upF ⟨cd, h1⟩ ⟨d, h2⟩ ⟨k, h3⟩ h
  exact ⟨a, b, fun e he hn => c ⟨e, he⟩ (fun z => hn (congrArg Fin.val z))⟩
/-- what a doubt may be: how many, their weights -/
def zDb (N : Nat) (s1 : Nat → Int32) (s2 : Nat → Nat → Int32) (nd : Nat) (mn : Nat → Nat) (wt : Nat → Nat → Nat) : Prop := ∀ e, e < nd → s2 53 e = iI (mn e) ∧ (1 ≤ mn e ∧ mn e ≤ 3) ∧ ∀ k, k < mn e → (∀ V, f_weightOf N (s1, s2, V) (iI e) (iI k) = some (iI (wt e k), (s1, s2, V))) ∧ 1 ≤ wt e k ∧ wt e k ≤ 9
/-- the first value of a cell -/
def zX0 (nd : Nat) (nb : Nat → Nat) (cd go mean : Nat) (mn : Nat → Nat) (wt : Nat → Nat → Nat) (Y : Nat → Nat → Nat) (c : Nat) : Nat :=
  if c = go then 0 else if zNw nd (nb c) cd (nd + 1) 0 = -1 then 1000000000000000 else zOv mean (wt (zNw nd (nb c) cd (nd + 1) 0).toNat) (fun k => Y (cd + (k + 1) * 4 ^ (zNw nd (nb c) cd (nd + 1) 0).toNat) c) (mn (zNw nd (nb c) cd (nd + 1) 0).toNat) 0 0
theorem zSum_27 {f : Nat → Nat} {n : Nat} (hn : 1 ≤ n ∧ n ≤ 3) (h : ∀ k, k < n → 1 ≤ f k ∧ f k ≤ 9) : 1 ≤ zSum f n ∧ zSum f n ≤ 27 := by
  have h1 := zSum_b (X := f) (M := 9) n (fun d hd => (h d hd).2)
  obtain ⟨m, rfl⟩ : ∃ m, n = m + 1 := ⟨n - 1, by omega⟩
  have := (h m (by omega)).1
  refine ⟨?_, by omega⟩
  simp only [zSum]
  omega
theorem m_70 {N : Nat} {s1 : Nat → Int32} {s2 : Nat → Nat → Int32} {w h n nd cd go mean : Nat} {nb K mn : Nat → Nat} {wt Y : Nat → Nat → Nat} {k47 : MS → Int32 → Int32 → Int32 → Option MS} (hC : zCx s1 s2 w h n nd nb K) (hD : zDb N s1 s2 nd mn wt) (hcd : cd < 1024) (hgo : go < n) (hN : 6 ≤ N) (hm : mean = 0 ∨ mean = 1) : ∀ (m c : Nat) (V : Nat → Int64), c ≤ n → n < c + m → (∀ e k d, e < nd → zD cd e = 0 → k < mn e → d < n → V (100 * (cd + (k + 1) * 4 ^ e) + d) = iL (Y (cd + (k + 1) * 4 ^ e) d) ∧ Y (cd + (k + 1) * 4 ^ e) d ≤ 1000000000000000) →
    ∃ V' : Nat → Int64, f_solve_70 N k47 m (s1, s2, V) (iI go) (iI mean) (iI cd) (iI c) = f_solve_156 N k47 (s1, s2, V') (iI go) (iI mean) (iI cd) (iL (if mean = 0 then 1 else zPr (fun e => zSum (wt e) (mn e)) cd nd : Nat)) ∧ (∀ i, (∀ d, c ≤ d → d < n → i ≠ 100 * cd + d) → V' i = V i) ∧ ∀ d, c ≤ d → d < n → V' (100 * cd + d) = iL (zX0 nd nb cd go mean mn wt Y d) := by
  obtain ⟨e1, e2, hw, hh, hn, e3, hnd, hnb, hK⟩ := hC
  have m4 : w * h ≤ 10 * 10 := Nat.mul_le_mul hw.2 hh.2
  have hwh : s1 35 * s1 36 = iI (n : Int) := by
    rw [e1, e2, i_mul, hn, Int.natCast_mul]
  intro m
  induction m with
  | zero => intro c V h1 h2; omega
  | succ m ih =>
    intro c V h1 h2 hY
    rw [f_solve_70]
    unfold f_solve_136
    show ∃ V' : Nat → Int64, (if (s1 35 * s1 36) ≤ iI c then _ else _) = _ ∧ _
    rw [hwh]
    by_cases hc : n ≤ c
    · refine ⟨V, ?_, fun i _ => rfl, fun d d1 d2 => by omega⟩
      rw [p_le (by omega) (by omega) (by omega) (by omega) (by omega)]
      rcases hm with hm | hm
      · subst hm
        rw [if_pos (show iI ((0 : Nat) : Int) = 0 from rfl), if_pos (show (0 : Nat) = 0 from rfl)]
        rfl
      · subst hm
        have lf := m_left (N := N) (σ := (s1, s2, V)) (cd := cd) (al := fun e => zSum (wt e) (mn e)) e3 hnd hcd (fun d hd => by
          obtain ⟨a1, a2, a3⟩ := hD d hd
          exact ⟨m_all a1 a2.2 (by omega) (fun k hk => ⟨(a3 k hk).1 V, (a3 k hk).2.2⟩) (by omega), zSum_27 a2 (fun k hk => (a3 k hk).2)⟩) hN
        rw [if_neg (show ¬ iI ((1 : Nat) : Int) = 0 by decide), lf, q_mc, if_neg (show ¬ (1 : Nat) = 0 by decide)]
    · have en : iI (c : Int) + 1 = iI ((c + 1 : Nat) : Int) := by
        rw [j1, i_add]
        rfl
      obtain ⟨i3, i4⟩ := t_ix (a := 100 * (cd : Int) + (c : Int)) (n := 102400) (k := 100 * cd + c) (by omega) (by omega) (by decide)
      have nw := m_new (N := N) (σ := (s1, s2, V)) (c := c) e3 hnd hcd (by omega) (hnb c (by omega)).1 (hnb c (by omega)).2 hN
      have zb := zNw_b (nb := nb c) (cd := cd) hnd (nd + 1) 0
      have fin : ∃ V' : Nat → Int64, f_solve_70 N k47 m (mVal (s1, s2, V) (100 * cd + c) (iL (zX0 nd nb cd go mean mn wt Y c))) (iI go) (iI mean) (iI cd) (iI ((c + 1 : Nat) : Int)) = f_solve_156 N k47 (s1, s2, V') (iI go) (iI mean) (iI cd) (iL (if mean = 0 then 1 else zPr (fun e => zSum (wt e) (mn e)) cd nd : Nat)) ∧ (∀ i, (∀ d, c ≤ d → d < n → i ≠ 100 * cd + d) → V' i = V i) ∧ ∀ d, c ≤ d → d < n → V' (100 * cd + d) = iL (zX0 nd nb cd go mean mn wt Y d) := by
        obtain ⟨V', a1, a2, a3⟩ := ih (c + 1) (vp_updL V (100 * cd + c) (iL (zX0 nd nb cd go mean mn wt Y c))) (by omega) (by omega) (fun e k d he h0 hk hd => by
          have hk3 := (hD e he).2.1.2
          have hp : 1 ≤ 4 ^ e := Nat.pos_of_ne_zero (by simp)
          have hq : 1 ≤ (k + 1) * 4 ^ e := Nat.mul_pos (by omega) hp
          unfold vp_updL
          rw [if_neg (by omega)]
          exact hY e k d he h0 hk hd)
        refine ⟨V', a1, fun i hi => ?_, fun d d1 d2 => ?_⟩
        · rw [a2 i (fun d d1 d2 => hi d (by omega) d2)]
          unfold vp_updL
          rw [if_neg (hi c (by omega) (by omega))]
        · by_cases e : d = c
          · subst e
            rw [a2 _ (fun d d1 d2 => by omega)]
            unfold vp_updL
            rw [if_pos rfl]
          · exact a3 d (by omega) d2
      rw [n_le (by omega) (by omega) (by omega) (by omega) (by omega), nw, q_mc, j100, i_mul, i_add]
      by_cases hg : c = go
      · have hz : zX0 nd nb cd go mean mn wt Y c = 0 := if_pos hg
        rw [hz] at fin
        rw [p_eq (by omega) (by omega) (by omega) (by omega) (by omega), if_pos i3, p_let, i4, p_let, en]
        exact fin
      · rw [n_eq (by omega) (by omega) (by omega) (by omega) (by omega), j_m1]
        by_cases hnw : zNw nd (nb c) cd (nd + 1) 0 = -1
        · have hz : zX0 nd nb cd go mean mn wt Y c = 1000000000000000 := by
            unfold zX0
            rw [if_neg hg, if_pos hnw]
          rw [hz] at fin
          rw [p_eq (by omega) (by omega) (by omega) (by omega) (by omega), if_pos i3, p_let, i4, p_let, en]
          exact fin
        · obtain ⟨e, q1, q2, q3, q4⟩ := zNw_s _ _ hnw
          have hz : zX0 nd nb cd go mean mn wt Y c = zOv mean (wt e) (fun k => Y (cd + (k + 1) * 4 ^ e) c) (mn e) 0 0 := by
            unfold zX0
            rw [if_neg hg, if_neg hnw, q1]
            rfl
          obtain ⟨a1, a2, a3⟩ := hD e q2
          have ov := m_over (N := N) (σ := (s1, s2, V)) (cd := cd) (c := c) (mean := mean) (wt := wt e) (val := fun k => Y (cd + (k + 1) * 4 ^ e) c) a1 a2.2 (by omega) rfl (fun k hk => (zD_up hcd (by omega) (by omega) q3).1) (by omega) (fun k hk => hY e k c q2 q3 hk (by omega)) (fun k hk => ⟨(a3 k hk).1 V, (a3 k hk).2.2⟩) hm (by omega)
          rw [hz] at fin
          rw [n_eq (by omega) (by omega) (by omega) (by omega) (by omega), q1, ov, q_mc, if_pos i3, p_let, i4, p_let, en]
          exact fin
