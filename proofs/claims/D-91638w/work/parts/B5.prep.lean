/-! PLAIN: the model's prepares -/
def zNe (w h dl c : Nat) : Bool := decide (dl = c) || (decide (besI w h c 0 = dl) || (decide (besI w h c 1 = dl) || (decide (besI w h c 2 = dl) || decide (besI w h c 3 = dl))))
theorem zNe_iff {w h dl c : Nat} : zNe w h dl c = true ↔ (dl = c ∨ ∃ y, y < 4 ∧ besI w h c y = dl) := by
  unfold zNe
  simp only [Bool.or_eq_true, decide_eq_true_eq]
  constructor
  · rintro (a | a | a | a | a)
    · exact Or.inl a
    · exact Or.inr ⟨0, by decide, a⟩
    · exact Or.inr ⟨1, by decide, a⟩
    · exact Or.inr ⟨2, by decide, a⟩
    · exact Or.inr ⟨3, by decide, a⟩
  · rintro (a | ⟨y, hy, a⟩)
    · exact Or.inl a
    · match y, hy with
      | 0, _ => exact Or.inr (Or.inl a)
      | 1, _ => exact Or.inr (Or.inr (Or.inl a))
      | 2, _ => exact Or.inr (Or.inr (Or.inr (Or.inl a)))
      | 3, _ => exact Or.inr (Or.inr (Or.inr (Or.inr a)))
theorem m_nr17 {N : Nat} {σ : MS} {w h n c e dl : Nat} (e1 : σ.1 35 = iI w) (e2 : σ.1 36 = iI h) (hw : 1 ≤ w ∧ w ≤ 10) (hh : 1 ≤ h ∧ h ≤ 10) (hn : n = w * h) (hc : c < n) (he : e < 5) (h44 : σ.2.1 44 e = iI dl) (hdl : dl < n) : ∀ (m y fl : Nat), y ≤ 4 → 4 < y + m → (fl = 0 ∨ fl = 1) → ∃ r : Nat, (r = 0 ∨ r = 1) ∧ f_isNear_17 N m σ (iI c) (iI e) (iI fl) (iI y) = some (iI r, σ) ∧ (r = 1 ↔ (fl = 1 ∨ ∃ y', y ≤ y' ∧ y' < 4 ∧ besI w h c y' = dl)) := by
  have m4 : w * h ≤ 10 * 10 := Nat.mul_le_mul hw.2 hh.2
  intro m
  induction m with
  | zero => intro y fl h1 h2; omega
  | succ m ih =>
    intro y fl h1 h2 hfl
    rw [f_isNear_17]
    unfold f_isNear_43 f_isNear_48
    rw [j4]
    by_cases hy : y = 4
    · subst hy
      refine ⟨fl, hfl, ?_, ⟨fun z => Or.inl z, fun z => z.elim id (fun ⟨y', a, b, _⟩ => by omega)⟩⟩
      rw [p_le (by omega) (by omega) (by omega) (by omega) (by omega)]
      rcases hfl with rfl | rfl
      · exact if_pos rfl
      · exact if_pos rfl
    · have ey : iI (y : Int) + 1 = iI ((y + 1 : Nat) : Int) := by
        rw [j1, i_add]
        rfl
      rw [n_le (by omega) (by omega) (by omega) (by omega) (by omega)]
      rcases hfl with rfl | rfl
      · obtain ⟨i1, i2⟩ := t_ix (a := (e : Int)) (n := mLen 44) (k := e) rfl (by rw [mL44]; omega) (by rw [mL44]; omega)
        rw [if_pos (show iI ((0 : Nat) : Int) = 0 from rfl), b_m24 e1 e2 (by omega) hw hh (hn ▸ hc), q_mc, if_pos i1, p_let, i2, h44, ey]
        have bb := bes_b (w := w) (h := h) (c := c) (d := y) hw hh
        by_cases hq : besI w h c y = dl
        · obtain ⟨r, a1, a2, a3⟩ := ih (y + 1) 1 (by omega) (by omega) (Or.inr rfl)
          refine ⟨r, a1, ?_, ?_⟩
          · rw [p_eq (by omega) (by omega) (by omega) (by omega) (by omega), p_let]
            exact a2
          · exact ⟨fun _ => Or.inr ⟨y, Nat.le_refl _, by omega, hq⟩, fun _ => a3.mpr (Or.inl rfl)⟩
        · obtain ⟨r, a1, a2, a3⟩ := ih (y + 1) 0 (by omega) (by omega) (Or.inl rfl)
          refine ⟨r, a1, ?_, ?_⟩
          · rw [n_eq (by omega) (by omega) (by omega) (by omega) hq, p_let]
            exact a2
          · rw [a3]
            constructor
            · rintro (z | ⟨y', b1, b2, b3⟩)
              · cases z
              · exact Or.inr ⟨y', by omega, b2, b3⟩
            · rintro (z | ⟨y', b1, b2, b3⟩)
              · cases z
              · by_cases x : y' = y
                · exact absurd (x ▸ b3) hq
                · exact Or.inr ⟨y', by omega, b2, b3⟩
      · obtain ⟨r, a1, a2, a3⟩ := ih (y + 1) 1 (by omega) (by omega) (Or.inr rfl)
        refine ⟨r, a1, ?_, ⟨fun _ => Or.inl rfl, fun _ => a3.mpr (Or.inl rfl)⟩⟩
        rw [if_neg (show ¬ iI ((1 : Nat) : Int) = 0 by decide), p_let, ey]
        exact a2
theorem m_near {N : Nat} {σ : MS} {w h n c e dl : Nat} (e1 : σ.1 35 = iI w) (e2 : σ.1 36 = iI h) (hw : 1 ≤ w ∧ w ≤ 10) (hh : 1 ≤ h ∧ h ≤ 10) (hn : n = w * h) (hc : c < n) (he : e < 5) (h44 : σ.2.1 44 e = iI dl) (hdl : dl < n) (hN : 5 ≤ N) : f_isNear N σ (iI c) (iI e) = some (if zNe w h dl c = true then 1 else 0, σ) := by
  have m4 : w * h ≤ 10 * 10 := Nat.mul_le_mul hw.2 hh.2
  obtain ⟨i1, i2⟩ := t_ix (a := (e : Int)) (n := mLen 44) (k := e) rfl (by rw [mL44]; omega) (by rw [mL44]; omega)
  unfold f_isNear
  rw [if_pos i1, p_let, i2, h44]
  by_cases hq : dl = c
  · rw [p_eq (by omega) (by omega) (by omega) (by omega) (by omega), if_pos (zNe_iff.mpr (Or.inl hq))]
  · rw [n_eq (by omega) (by omega) (by omega) (by omega) (by omega)]
    obtain ⟨r, a1, a2, a3⟩ := m_nr17 (N := N) e1 e2 hw hh hn hc he h44 hdl N 0 0 (by omega) (by omega) (Or.inl rfl)
    rw [show (0 : Int32) = iI ((0 : Nat) : Int) from rfl, a2]
    by_cases hz : zNe w h dl c = true
    · have : r = 1 := a3.mpr (Or.inr (by
        rcases zNe_iff.mp hz with z | ⟨y, b1, b2⟩
        · exact absurd z hq
        · exact ⟨y, by omega, b1, b2⟩))
      rw [if_pos hz, this]
      rfl
    · have : r = 0 := by
        rcases a1 with z | z
        · exact z
        · rcases a3.mp z with b | ⟨y, b0, b1, b2⟩
          · cases b
          · exact absurd (zNe_iff.mpr (Or.inr ⟨y, b1, b2⟩)) hz
      rw [if_neg hz, this]
/-- the doubts that are seen from a cell, as bits: of the first ones -/
def zNb (w h : Nat) (dc : Nat → Nat) (c : Nat) : Nat → Nat
  | 0 => 0
  | e + 1 => zNb w h dc c e ||| (if zNe w h (dc e) c = true then 2 ^ e else 0)
theorem zNb_lt {w h : Nat} {dc : Nat → Nat} {c : Nat} : ∀ e, zNb w h dc c e < 2 ^ e := by
  intro e
  induction e with
  | zero => exact Nat.lt_of_sub_eq_succ rfl
  | succ e ih =>
    rw [zNb]
    have h2 : 2 ^ (e + 1) = 2 * 2 ^ e := by rw [Nat.pow_succ, Nat.mul_comm]
    have hp : 0 < 2 ^ e := Nat.pos_of_ne_zero (by simp)
    refine Nat.or_lt_two_pow (by omega) ?_
    split <;> omega
theorem m_pr28 {N : Nat} {s1 : Nat → Int32} {s2 : Nat → Nat → Int32} {V : Nat → Int64} {A : Nat → Int32} {w h n nd c : Nat} {dc : Nat → Nat} {k6 : MS → Int32 → Option MS} (e1 : s1 35 = iI w) (e2 : s1 36 = iI h) (hw : 1 ≤ w ∧ w ≤ 10) (hh : 1 ≤ h ∧ h ≤ 10) (hn : n = w * h) (e3 : s1 37 = iI nd) (hnd : nd ≤ 5) (hc : c < n) (h44 : ∀ e, e < nd → s2 44 e = iI (dc e) ∧ dc e < n) (hN : 5 ≤ N) : ∀ (m e : Nat) (B : Nat → Int32), e ≤ nd → nd < e + m → B c = iI (zNb w h dc c e) → ∃ B' : Nat → Int32, f_prepares_28 N k6 m (s1, zRow (zRow s2 71 A) 72 B, V) (iI c) (iI e) = f_prepares_69 N k6 N (s1, zRow (zRow s2 71 A) 72 B', V) (iI c) 0 ∧ B' c = iI (zNb w h dc c nd) ∧ ∀ i, i ≠ c → B' i = B i := by
  have m4 : w * h ≤ 10 * 10 := Nat.mul_le_mul hw.2 hh.2
  intro m
  induction m with
  | zero => intro e B h1 h2; omega
  | succ m ih =>
    intro e B h1 h2 hb
    rw [f_prepares_28]
    unfold f_prepares_59
    have e3' : ((s1, zRow (zRow s2 71 A) 72 B, V) : MS).1 37 = iI nd := e3
    rw [e3']
    by_cases he : nd ≤ e
    · refine ⟨B, ?_, ?_, fun i _ => rfl⟩
      · rw [p_le (by omega) (by omega) (by omega) (by omega) (by omega)]
      · rw [show nd = e from by omega]
        exact hb
    · obtain ⟨d1, d2⟩ := h44 e (by omega)
      obtain ⟨i1, i2⟩ := t_ix (a := (c : Int)) (n := mLen 72) (k := c) rfl (by rw [mL72]; omega) (by rw [mL72]; omega)
      have ee : iI (e : Int) + 1 = iI ((e + 1 : Nat) : Int) := by
        rw [j1, i_add]
        rfl
      have nr := m_near (N := N) (σ := (s1, zRow (zRow s2 71 A) 72 B, V)) (c := c) (e := e) e1 e2 hw hh hn hc (by omega) d1 d2 hN
      have r72 : ((s1, zRow (zRow s2 71 A) 72 B, V) : MS).2.1 72 c = iI (zNb w h dc c e) := hb
      have lt := zNb_lt (w := w) (h := h) (dc := dc) (c := c) e
      have p32 : 2 ^ e ≤ 2 ^ 4 := Nat.pow_le_pow_right (by decide) (by omega)
      have l32 : zNb w h dc c e < 32 := by omega
      have zn : zNb w h dc c (e + 1) = zNb w h dc c e ||| (if zNe w h (dc e) c = true then 2 ^ e else 0) := rfl
      rw [n_le (by omega) (by omega) (by omega) (by omega) (by omega), if_pos i1, p_let, i2, r72, nr, q_mc, ee]
      by_cases hz : zNe w h (dc e) c = true
      · rw [if_pos hz] at zn ⊢
        have ho : iI (zNb w h dc c e : Int) ||| iI ((2 ^ e : Nat) : Int) = iI (zNb w h dc c (e + 1) : Int) := by
          rw [zn]
          exact t_orF ⟨zNb w h dc c e, l32⟩ ⟨2 ^ e, by omega⟩
        rw [if_neg (by decide), if_pos i1, p_let, t_sh (by omega), ho, zRow_arr, p_let]
        obtain ⟨B', a1, a2, a3⟩ := ih (e + 1) (upd B c (iI (zNb w h dc c (e + 1)))) (by omega) (by omega) (if_pos rfl)
        refine ⟨B', a1, a2, fun i hi => ?_⟩
        rw [a3 i hi]
        exact if_neg hi
      · rw [if_neg hz, Nat.or_zero] at zn
        rw [if_neg hz, if_pos rfl, if_pos i1, p_let]
        have ho : iI (zNb w h dc c e : Int) ||| 0 = iI (zNb w h dc c (e + 1) : Int) := by
          rw [zn]
          have := t_orF ⟨zNb w h dc c e, l32⟩ ⟨0, by decide⟩
          rw [show (((⟨zNb w h dc c e, l32⟩ : Fin 32).1 ||| (⟨0, by decide⟩ : Fin 32).1 : Nat)) = zNb w h dc c e from Nat.or_zero _] at this
          exact this
        rw [ho, zRow_arr, p_let]
        obtain ⟨B', a1, a2, a3⟩ := ih (e + 1) (upd B c (iI (zNb w h dc c (e + 1)))) (by omega) (by omega) (if_pos rfl)
        refine ⟨B', a1, a2, fun i hi => ?_⟩
        rw [a3 i hi]
        exact if_neg hi
