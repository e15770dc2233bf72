/-! PLAIN: the model's over, weights, what is left -/
theorem m_wt {N : Nat} {σ : MS} {d k kd wt : Nat} (hd : d < 5) (hk : k < 4) (h1 : σ.2.1 52 (4 * d + k) = iI kd) (hkd : kd < 8) (h2 : σ.2.1 46 (8 * d + kd) = iI wt) : f_weightOf N σ (iI d) (iI k) = some (iI wt, σ) := by
  obtain ⟨i1, i2⟩ := t_ix (a := 4 * (d : Int) + (k : Int)) (n := mLen 52) (k := 4 * d + k) (by omega) (by rw [mL52]; omega) (by rw [mL52]; omega)
  obtain ⟨i3, i4⟩ := t_ix (a := 8 * (d : Int) + (kd : Int)) (n := mLen 46) (k := 8 * d + kd) (by omega) (by rw [mL46]; omega) (by rw [mL46]; omega)
  unfold f_weightOf
  rw [j4, i_mul, i_add, if_pos i1, p_let, i2, h1, j8, i_mul, i_add, if_pos i3, p_let, i4, h2]
/-- all that a doubt may be: the worst, or the sum by weights -/
def zOv (mean : Nat) (wt val : Nat → Nat) : Nat → Nat → Nat → Nat
  | 0, _, acc => acc
  | m + 1, k, acc => if val k < 1000000000000000 then zOv mean wt val m (k + 1) (if mean = 0 then (if val k ≤ acc then acc else val k) else acc + wt k * val k) else 1000000000000000
theorem m_over6 {N : Nat} {σ : MS} {cd c d mn mean q : Nat} {wt val : Nat → Nat} (h53 : σ.2.1 53 d = iI mn) (hmn : mn ≤ 3) (hd : d < 5) (hq : q = 4 ^ d) (hx : ∀ k, k < mn → cd + (k + 1) * q < 1024) (hc : c < 100) (hv : ∀ k, k < mn → σ.2.2 (100 * (cd + (k + 1) * q) + c) = iL (val k) ∧ val k ≤ 1000000000000000) (hw : ∀ k, k < mn → f_weightOf N σ (iI d) (iI k) = some (iI (wt k), σ) ∧ wt k ≤ 9) (hm : mean = 0 ∨ mean = 1) : ∀ (m k acc : Nat), k ≤ mn → mn < k + m → acc ≤ 9 * 1000000000000000 * k → f_over_6 N m σ (iI cd) (iI c) (iI d) (iI mean) (iL acc) (iI k) = some (iL (zOv mean wt val (mn - k) k acc), σ) := by
  obtain ⟨i1, i2⟩ := t_ix (a := (d : Int)) (n := mLen 53) (k := d) rfl (by rw [mL53]; omega) (by rw [mL53]; omega)
  intro m
  induction m with
  | zero => intro k acc h1 h2; omega
  | succ m ih =>
    intro k acc h1 h2 h3
    rw [f_over_6]
    unfold f_over_90
    rw [if_pos i1, p_let, i2, h53]
    by_cases hk : mn ≤ k
    · rw [p_le (by omega) (by omega) (by omega) (by omega) (by omega), show mn - k = 0 from by omega, zOv]
    · obtain ⟨v1, v2⟩ := hv k (by omega)
      obtain ⟨w1, w2⟩ := hw k (by omega)
      have hxk := hx k (by omega)
      have ei : 100 * ((cd : Int) + ((k : Int) + 1) * (q : Int)) + (c : Int) = ((100 * (cd + (k + 1) * q) + c : Nat) : Int) := by
        rw [Int.natCast_add, Int.natCast_mul, Int.natCast_add, Int.natCast_mul, Int.natCast_add]
        rfl
      obtain ⟨i3, i4⟩ := t_ix (n := 102400) ei (by omega) (by decide)
      have en : iI (k : Int) + 1 = iI ((k + 1 : Nat) : Int) := by
        rw [j1, i_add]
        rfl
      have pb : wt k * val k ≤ 9 * 1000000000000000 := Nat.mul_le_mul w2 v2
      have pc : (wt k : Int) * (val k : Int) = ((wt k * val k : Nat) : Int) := (Int.natCast_mul _ _).symm
      rw [n_le (by omega) (by omega) (by omega) (by omega) (by omega), m_pow hd, q_mc, ← hq, show mn - k = (mn - (k + 1)) + 1 from by omega, zOv]
      have e3 : (100 : Int32) * (iI (cd : Int) + (iI (k : Int) + 1) * iI (q : Int)) + iI (c : Int) = iI (100 * ((cd : Int) + ((k : Int) + 1) * (q : Int)) + (c : Int)) := by
        rw [j1, j100, i_add, i_mul, i_add, i_mul, i_add]
      rw [e3, if_pos i3, p_let, i4, v1, eLF]
      by_cases hf : val k < 1000000000000000
      · rw [p_cl (by omega) (by omega) (by omega) (by omega) (by omega), if_pos hf]
        rcases hm with hm | hm
        · subst hm
          rw [if_pos (show iI ((0 : Nat) : Int) = 0 from rfl), if_pos (show (0 : Nat) = 0 from rfl)]
          by_cases hle : val k ≤ acc
          · rw [p_ce (by omega) (by omega) (by omega) (by omega) (by omega), if_pos hle, p_let, en]
            exact ih (k + 1) acc (by omega) (by omega) (by omega)
          · rw [n_ce (by omega) (by omega) (by omega) (by omega) (by omega), if_neg hle, p_let, en]
            exact ih (k + 1) (val k) (by omega) (by omega) (by omega)
        · subst hm
          rw [if_neg (show ¬ iI ((1 : Nat) : Int) = 0 by decide), if_neg (show ¬ (1 : Nat) = 0 by decide), w1, q_mc, e_i2l (by omega) (by omega), e_mul, pc, e_add, p_let, en]
          exact ih (k + 1) (acc + wt k * val k) (by omega) (by omega) (by omega)
      · rw [n_cl (by omega) (by omega) (by omega) (by omega) (by omega), if_neg hf]
        rfl
theorem m_over {N : Nat} {σ : MS} {cd c d mn mean q : Nat} {wt val : Nat → Nat} (h53 : σ.2.1 53 d = iI mn) (hmn : mn ≤ 3) (hd : d < 5) (hq : q = 4 ^ d) (hx : ∀ k, k < mn → cd + (k + 1) * q < 1024) (hc : c < 100) (hv : ∀ k, k < mn → σ.2.2 (100 * (cd + (k + 1) * q) + c) = iL (val k) ∧ val k ≤ 1000000000000000) (hw : ∀ k, k < mn → f_weightOf N σ (iI d) (iI k) = some (iI (wt k), σ) ∧ wt k ≤ 9) (hm : mean = 0 ∨ mean = 1) (hN : 4 ≤ N) : f_over N σ (iI cd) (iI c) (iI d) (iI mean) = some (iL (zOv mean wt val mn 0 0), σ) := by
  unfold f_over
  exact m_over6 h53 hmn hd hq hx hc hv hw hm N 0 0 (by omega) (by omega) (by omega)
theorem m_all5 {N : Nat} {σ : MS} {d mn : Nat} {wt : Nat → Nat} (h53 : σ.2.1 53 d = iI mn) (hmn : mn ≤ 3) (hd : d < 5) (hw : ∀ k, k < mn → f_weightOf N σ (iI d) (iI k) = some (iI (wt k), σ) ∧ wt k ≤ 9) : ∀ (m k : Nat), k ≤ mn → mn < k + m → f_allOf_5 N m σ (iI d) (iL (zSum wt k)) (iI k) = some (iL (zSum wt mn), σ) := by
  obtain ⟨i1, i2⟩ := t_ix (a := (d : Int)) (n := mLen 53) (k := d) rfl (by rw [mL53]; omega) (by rw [mL53]; omega)
  intro m
  induction m with
  | zero => intro k h1 h2; omega
  | succ m ih =>
    intro k h1 h2
    rw [f_allOf_5, if_pos i1, p_let, i2, h53]
    by_cases hk : mn ≤ k
    · rw [p_le (by omega) (by omega) (by omega) (by omega) (by omega), show k = mn from by omega]
    · obtain ⟨w1, w2⟩ := hw k (by omega)
      have en : iI (k : Int) + 1 = iI ((k + 1 : Nat) : Int) := by
        rw [j1, i_add]
        rfl
      rw [n_le (by omega) (by omega) (by omega) (by omega) (by omega), w1, q_mc, e_i2l (by omega) (by omega), e_add, p_let, p_let, en]
      exact ih (k + 1) (by omega) (by omega)
theorem m_all {N : Nat} {σ : MS} {d mn : Nat} {wt : Nat → Nat} (h53 : σ.2.1 53 d = iI mn) (hmn : mn ≤ 3) (hd : d < 5) (hw : ∀ k, k < mn → f_weightOf N σ (iI d) (iI k) = some (iI (wt k), σ) ∧ wt k ≤ 9) (hN : 4 ≤ N) : f_allOf N σ (iI d) = some (iL (zSum wt mn), σ) := by
  unfold f_allOf
  exact m_all5 h53 hmn hd hw N 0 (by omega) (by omega)
/-- the weights of what is not seen: of the first doubts -/
def zPr (al : Nat → Nat) (cd : Nat) : Nat → Nat
  | 0 => 1
  | d + 1 => zPr al cd d * (if zD cd d = 0 then al d else 1)
theorem zPr_b {al : Nat → Nat} {cd : Nat} : ∀ d, (∀ j, j < d → 1 ≤ al j ∧ al j ≤ 27) → 1 ≤ zPr al cd d ∧ zPr al cd d ≤ 27 ^ d := by
  intro d
  induction d with
  | zero => intro _; simp only [zPr]; omega
  | succ d ih =>
    intro h
    obtain ⟨i1, i2⟩ := ih (fun j hj => h j (by omega))
    obtain ⟨a1, a2⟩ := h d (by omega)
    simp only [zPr]
    rw [Nat.pow_succ]
    split
    · exact ⟨Nat.mul_pos i1 a1, Nat.mul_le_mul i2 a2⟩
    · exact ⟨by omega, Nat.mul_le_mul i2 (by omega)⟩
theorem m_left5 {N : Nat} {σ : MS} {cd nd : Nat} {al : Nat → Nat} (e3 : σ.1 37 = iI nd) (hnd : nd ≤ 5) (hcd : cd < 1024) (ha : ∀ d, d < nd → f_allOf N σ (iI d) = some (iL (al d), σ) ∧ 1 ≤ al d ∧ al d ≤ 27) : ∀ (m d : Nat), d ≤ nd → nd < d + m → f_left_5 N m σ (iI cd) (iL (zPr al cd d)) (iI d) = some (iL (zPr al cd nd), σ) := by
  intro m
  induction m with
  | zero => intro d h1 h2; omega
  | succ m ih =>
    intro d h1 h2
    rw [f_left_5, e3]
    unfold f_left_35
    by_cases hd : nd ≤ d
    · rw [p_le (by omega) (by omega) (by omega) (by omega) (by omega), show d = nd from by omega]
    · obtain ⟨a1, a2, a3⟩ := ha d (by omega)
      have en : iI (d : Int) + 1 = iI ((d + 1 : Nat) : Int) := by
        rw [j1, i_add]
        rfl
      have zl := zD_lt (cd := cd) (d := d)
      have ihh := ih (d + 1) (by omega) (by omega)
      rw [zPr] at ihh
      rw [n_le (by omega) (by omega) (by omega) (by omega) (by omega), m_dig hcd (by omega), q_mc, j0, en]
      by_cases h0 : zD cd d = 0
      · rw [if_pos h0, Int.natCast_mul] at ihh
        rw [p_eq (by omega) (by omega) (by omega) (by omega) (by omega), a1, q_mc, e_mul, p_let]
        exact ihh
      · rw [if_neg h0, Nat.mul_one] at ihh
        rw [n_eq (by omega) (by omega) (by omega) (by omega) (by omega), p_let]
        exact ihh
theorem m_left {N : Nat} {σ : MS} {cd nd : Nat} {al : Nat → Nat} (e3 : σ.1 37 = iI nd) (hnd : nd ≤ 5) (hcd : cd < 1024) (ha : ∀ d, d < nd → f_allOf N σ (iI d) = some (iL (al d), σ) ∧ 1 ≤ al d ∧ al d ≤ 27) (hN : 6 ≤ N) : f_left N σ (iI cd) = some (iL (zPr al cd nd), σ) := by
  unfold f_left
  exact m_left5 e3 hnd hcd ha N 0 (by omega) (by omega)
