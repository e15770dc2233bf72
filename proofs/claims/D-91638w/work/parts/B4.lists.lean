/-! PLAIN: the model's lists of kinds -/
def zInd (f : Nat → Nat) (g : Nat) : Nat := if f g = 0 then 0 else 1
/-- how many of the first grounds weigh -/
def zCn (f : Nat → Nat) (g : Nat) : Nat := zSum (zInd f) g
theorem zCn_s {f : Nat → Nat} {g : Nat} : zCn f (g + 1) = zCn f g + (if f g = 0 then 0 else 1) := rfl
theorem zCn_le {f : Nat → Nat} {g : Nat} : ∀ k, zCn f g ≤ zCn f (g + k) := by
  intro k
  induction k with
  | zero => exact Nat.le_refl _
  | succ k ih =>
    rw [show g + (k + 1) = (g + k) + 1 from rfl, zCn_s]
    omega
/-- the k-th ground that weighs, from g on -/
def zKg (f : Nat → Nat) : Nat → Nat → Nat → Nat
  | 0, g, _ => g
  | m + 1, g, k => if f g = 0 then zKg f m (g + 1) k else if k = 0 then g else zKg f m (g + 1) (k - 1)
def zKd (f : Nat → Nat) (k : Nat) : Nat := zKg f 8 0 k
theorem zKg_at {f : Nat → Nat} {q : Nat} (hq : f q ≠ 0) : ∀ (m g : Nat), g ≤ q → q < g + m → zKg f m g (zCn f q - zCn f g) = q := by
  intro m
  induction m with
  | zero => intro g h1 h2; omega
  | succ m ih =>
    intro g h1 h2
    rw [zKg]
    by_cases h : f g = 0
    · have e : zCn f (g + 1) = zCn f g := by rw [zCn_s, if_pos h]; rfl
      have hne : g ≠ q := fun z => hq (z ▸ h)
      rw [if_pos h, ← e]
      exact ih (g + 1) (by omega) (by omega)
    · have e : zCn f (g + 1) = zCn f g + 1 := by rw [zCn_s, if_neg h]
      rw [if_neg h]
      by_cases hg : g = q
      · rw [hg, Nat.sub_self, if_pos rfl]
      · have hle := zCn_le (f := f) (g := g + 1) (q - (g + 1))
        rw [show g + 1 + (q - (g + 1)) = q from by omega] at hle
        rw [if_neg (by omega), show zCn f q - zCn f g - 1 = zCn f q - zCn f (g + 1) from by omega]
        exact ih (g + 1) (by omega) (by omega)
theorem zKd_at {f : Nat → Nat} {q : Nat} (hq : f q ≠ 0) (h8 : q < 8) : zKd f (zCn f q) = q := by
  have := zKg_at hq 8 0 (by omega) (by omega)
  rw [show zCn f 0 = 0 from rfl, Nat.sub_zero] at this
  exact this
/-- every place of a kind is one of a ground that weighs -/
theorem zCn_in {f : Nat → Nat} {k : Nat} : ∀ g, k < zCn f g → ∃ q, q < g ∧ f q ≠ 0 ∧ zCn f q = k := by
  intro g
  induction g with
  | zero => intro h; exact absurd h (Nat.not_lt_zero _)
  | succ g ih =>
    intro h
    rw [zCn_s] at h
    by_cases h1 : k < zCn f g
    · obtain ⟨q, a, b, c⟩ := ih h1
      exact ⟨q, by omega, b, c⟩
    · by_cases h2 : f g = 0
      · rw [if_pos h2] at h; omega
      · rw [if_neg h2] at h
        exact ⟨g, by omega, h2, by omega⟩
theorem zKd_ok {f : Nat → Nat} {k : Nat} (h : k < zCn f 8) : zKd f k < 8 ∧ f (zKd f k) ≠ 0 := by
  obtain ⟨q, a, b, c⟩ := zCn_in 8 h
  rw [← c, zKd_at b a]
  exact ⟨a, b⟩
theorem zRow_arr2 {s1 : Nat → Int32} {s2 : Nat → Nat → Int32} {V : Nat → Int64} {j j' i : Nat} {R R' : Nat → Int32} {x : Int32} (h : j ≠ j') : mArr (s1, zRow (zRow s2 j R) j' R', V) j i x = (s1, zRow (zRow s2 j (upd R i x)) j' R', V) := by
  unfold mArr
  refine Prod.ext rfl (Prod.ext ?_ rfl)
  funext k
  show (if k = j then upd (zRow (zRow s2 j R) j' R' j) i x else zRow (zRow s2 j R) j' R' k) = zRow (zRow s2 j (upd R i x)) j' R' k
  have e : zRow (zRow s2 j R) j' R' j = R := by
    rw [zRow_n h]
    exact if_pos rfl
  rw [e]
  by_cases h1 : k = j
  · rw [if_pos h1, h1, zRow_n h]
    exact (if_pos rfl).symm
  · rw [if_neg h1]
    by_cases h2 : k = j'
    · rw [h2]
      exact (if_pos rfl).trans (if_pos rfl).symm
    · rw [zRow_n h2, zRow_n h2, zRow_n h1, zRow_n h1]
theorem m_ls19 {N : Nat} {s1 : Nat → Int32} {s2 : Nat → Nat → Int32} {V : Nat → Int64} {d : Nat} {f : Nat → Nat} {k2 : MS → Int32 → Option MS} (hd : d < 5) (hf : ∀ g, g < 8 → s2 46 (8 * d + g) = iI (f g) ∧ f g ≤ 9) (h3 : zCn f 8 ≤ 3) : ∀ (m g : Nat) (R2 R3 : Nat → Int32), g ≤ 8 → 8 < g + m → R3 d = iI (zCn f g) → (∀ k, k < zCn f g → R2 (4 * d + k) = iI (zKd f k)) →
    ∃ R2' R3' : Nat → Int32, f_lists_19 N k2 m (s1, zRow (zRow s2 52 R2) 53 R3, V) (iI d) (iI g) = k2 (s1, zRow (zRow s2 52 R2') 53 R3', V) (iI ((d + 1 : Nat) : Int)) ∧ R3' d = iI (zCn f 8) ∧ (∀ k, k < zCn f 8 → R2' (4 * d + k) = iI (zKd f k)) ∧ (∀ i, i ≠ d → R3' i = R3 i) ∧ ∀ i, ¬ (4 * d ≤ i ∧ i < 4 * d + 4) → R2' i = R2 i := by
  intro m
  induction m with
  | zero => intro g R2 R3 h1 h2; omega
  | succ m ih =>
    intro g R2 R3 h1 h2 r3 r2
    rw [f_lists_19]
    unfold f_lists_68
    have en : iI (d : Int) + 1 = iI ((d + 1 : Nat) : Int) := by
      rw [j1, i_add]
      rfl
    rw [j8]
    by_cases hg : g = 8
    · subst hg
      refine ⟨R2, R3, ?_, r3, r2, fun i _ => rfl, fun i _ => rfl⟩
      rw [p_le (by omega) (by omega) (by omega) (by omega) (by omega), p_let, en]
    · have eg : iI (g : Int) + 1 = iI ((g + 1 : Nat) : Int) := by
        rw [j1, i_add]
        rfl
      obtain ⟨f1, f2⟩ := hf g (by omega)
      obtain ⟨i1, i2⟩ := t_ix (a := 8 * (d : Int) + (g : Int)) (n := mLen 46) (k := 8 * d + g) (by omega) (by rw [mL46]; omega) (by rw [mL46]; omega)
      have r46 : ∀ (A B : Nat → Int32), ((s1, zRow (zRow s2 52 A) 53 B, V) : MS).2.1 46 (8 * d + g) = iI (f g) := fun A B => f1
      rw [n_le (by omega) (by omega) (by omega) (by omega) (by omega), i_mul, i_add, if_pos i1, p_let, i2, r46, eg]
      by_cases h0 : f g = 0
      · have e : zCn f (g + 1) = zCn f g := by rw [zCn_s, if_pos h0]; rfl
        rw [if_pos (show iI (f g : Int) = 0 by rw [h0]; rfl), p_let]
        exact ih (g + 1) R2 R3 (by omega) (by omega) (by rw [e]; exact r3) (by rw [e]; exact r2)
      · have e : zCn f (g + 1) = zCn f g + 1 := by rw [zCn_s, if_neg h0]
        have hle := zCn_le (f := f) (g := g + 1) (8 - (g + 1))
        rw [show g + 1 + (8 - (g + 1)) = 8 from by omega] at hle
        obtain ⟨i3, i4⟩ := t_ix (a := (d : Int)) (n := mLen 53) (k := d) rfl (by rw [mL53]; omega) (by rw [mL53]; omega)
        obtain ⟨i5, i6⟩ := t_ix (a := 4 * (d : Int) + (zCn f g : Int)) (n := mLen 52) (k := 4 * d + zCn f g) (by omega) (by rw [mL52]; omega) (by rw [mL52]; omega)
        have r53 : ∀ (A : Nat → Int32), ((s1, zRow (zRow s2 52 A) 53 R3, V) : MS).2.1 53 d = iI (zCn f g) := fun A => r3
        rw [if_neg (show ¬ iI (f g : Int) = 0 by rw [j0, j_eq (by omega) (by omega) (by omega) (by omega)]; omega), if_pos i3, p_let, i4, r53, j4, i_mul, i_add, if_pos i5, p_let, i6, zRow_arr2 (by decide), if_pos i3, p_let, r53, if_pos i3, p_let, zRow_arr, p_let, j1, i_add]
        obtain ⟨A, B, q1, q2, q3, q4, q5⟩ := ih (g + 1) (upd R2 (4 * d + zCn f g) (iI g)) (upd R3 d (iI ((zCn f g : Int) + 1))) (by omega) (by omega) (by rw [e]; exact if_pos rfl) (fun k hk => by
          show (if 4 * d + k = 4 * d + zCn f g then iI g else R2 (4 * d + k)) = _
          by_cases x : k = zCn f g
          · rw [if_pos (by omega), x, zKd_at h0 (by omega)]
          · rw [if_neg (by omega)]
            exact r2 k (by omega))
        refine ⟨A, B, q1, q2, q3, fun i hi => ?_, fun i hi => ?_⟩
        · rw [q4 i hi]
          exact if_neg hi
        · rw [q5 i hi]
          exact if_neg (by omega)
theorem m_ls2 {N : Nat} {s1 : Nat → Int32} {s2 : Nat → Nat → Int32} {V : Nat → Int64} {nd : Nat} {wg : Nat → Nat → Nat} (e3 : s1 37 = iI nd) (hnd : nd ≤ 5) (hf : ∀ d g, d < nd → g < 8 → s2 46 (8 * d + g) = iI (wg d g) ∧ wg d g ≤ 9) (h3 : ∀ d, d < nd → zCn (wg d) 8 ≤ 3) (hN : 9 ≤ N) : ∀ (m d : Nat) (R2 R3 : Nat → Int32), d ≤ nd → nd < d + m →
    ∃ R2' R3' : Nat → Int32, f_lists_2 N m (s1, zRow (zRow s2 52 R2) 53 R3, V) (iI d) = some (s1, zRow (zRow s2 52 R2') 53 R3', V) ∧ (∀ e, d ≤ e → e < nd → R3' e = iI (zCn (wg e) 8) ∧ ∀ k, k < zCn (wg e) 8 → R2' (4 * e + k) = iI (zKd (wg e) k)) ∧ (∀ i, i < d → R3' i = R3 i) ∧ ∀ i, i < 4 * d → R2' i = R2 i := by
  intro m
  induction m with
  | zero => intro d R2 R3 h1 h2; omega
  | succ m ih =>
    intro d R2 R3 h1 h2
    rw [f_lists_2]
    have e3' : ((s1, zRow (zRow s2 52 R2) 53 R3, V) : MS).1 37 = iI nd := e3
    rw [e3']
    by_cases hd : nd ≤ d
    · refine ⟨R2, R3, ?_, fun e d1 d2 => by omega, fun i _ => rfl, fun i _ => rfl⟩
      rw [p_le (by omega) (by omega) (by omega) (by omega) (by omega)]
    · obtain ⟨i3, i4⟩ := t_ix (a := (d : Int)) (n := mLen 53) (k := d) rfl (by rw [mL53]; omega) (by rw [mL53]; omega)
      rw [n_le (by omega) (by omega) (by omega) (by omega) (by omega), if_pos i3, p_let, zRow_arr, i4]
      obtain ⟨A, B, q1, q2, q3, q4, q5⟩ := m_ls19 (N := N) (s1 := s1) (V := V) (k2 := f_lists_2 N m) (by omega : d < 5) (fun g hg => hf d g (by omega) hg) (h3 d (by omega)) N 0 R2 (upd R3 d 0) (by omega) (by omega) (if_pos rfl) (fun k hk => absurd hk (Nat.not_lt_zero _))
      obtain ⟨A', B', t1, t2, t3, t4⟩ := ih (d + 1) A B (by omega) (by omega)
      refine ⟨A', B', ?_, fun e d1 d2 => ?_, fun i hi => ?_, fun i hi => ?_⟩
      · rw [show (0 : Int32) = iI ((0 : Nat) : Int) from rfl] at q1 ⊢
        exact q1.trans t1
      · by_cases x : e = d
        · subst x
          have c4 := h3 e d2
          exact ⟨(t3 e (by omega)).trans q2, fun k hk => (t4 _ (by omega)).trans (q3 k hk)⟩
        · exact t2 e (by omega) d2
      · rw [t3 i (by omega), q4 i (by omega)]
        exact if_neg (by omega)
      · rw [t4 i (by omega), q5 i (by omega)]
theorem m_lists {N : Nat} {s1 : Nat → Int32} {s2 : Nat → Nat → Int32} {V : Nat → Int64} {nd : Nat} {wg : Nat → Nat → Nat} (e3 : s1 37 = iI nd) (hnd : nd ≤ 5) (hf : ∀ d g, d < nd → g < 8 → s2 46 (8 * d + g) = iI (wg d g) ∧ wg d g ≤ 9) (h3 : ∀ d, d < nd → zCn (wg d) 8 ≤ 3) (hN : 9 ≤ N) : ∃ R2' R3' : Nat → Int32, f_lists N (s1, s2, V) = some (s1, zRow (zRow s2 52 R2') 53 R3', V) ∧ ∀ e, e < nd → R3' e = iI (zCn (wg e) 8) ∧ ∀ k, k < zCn (wg e) 8 → R2' (4 * e + k) = iI (zKd (wg e) k) := by
  obtain ⟨A, B, q1, q2, -, -⟩ := m_ls2 (N := N) (s1 := s1) (V := V) e3 hnd hf h3 hN N 0 (s2 52) (s2 53) (by omega) (by omega)
  refine ⟨A, B, ?_, fun e he => q2 e (by omega) he⟩
  have hid : zRow (zRow s2 52 (s2 52)) 53 (s2 53) = s2 := by rw [zRow_id, zRow_id]
  rw [hid] at q1
  unfold f_lists
  exact q1
