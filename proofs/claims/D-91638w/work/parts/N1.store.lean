/-! PLAIN: the model puts its book aside and takes it back -/
theorem m_cs {N j i p : Nat} {σ : MS} (hi : i < mLen j) (hp : p < 400) (h2 : mLen j ≤ 1000) : f_cell N j σ (iI i) (iI p) 0 = some (iI ((p + 1 : Nat) : Int), mArr σ 33 p (σ.2.1 j i)) := by
  obtain ⟨t1, t2⟩ := t_ix (a := (i : Int)) (n := mLen j) (k := i) rfl hi (by omega)
  obtain ⟨t3, t4⟩ := t_ix (a := (p : Int)) (n := mLen 33) (k := p) rfl (by rw [show mLen 33 = 400 from rfl]; omega) (by rw [show mLen 33 = 400 from rfl]; omega)
  have ep : iI (p : Int) + 1 = iI ((p + 1 : Nat) : Int) := by
    rw [j1, i_add]
    rfl
  unfold f_cell f_cell_26
  rw [if_pos rfl, if_pos t1, p_let, t2, if_pos t3, p_let, t4, ep]
theorem m_csR {N j i p : Nat} {σ : MS} {r : Nat → Int32} (hi : i < mLen j) (hp : p < 400) (h2 : mLen j ≤ 1000) (hj : j ≠ 33) : f_cell N j (mRow σ 33 r) (iI i) (iI p) 0 = some (iI ((p + 1 : Nat) : Int), mRow σ 33 (upd r p (σ.2.1 j i))) := by
  rw [m_cs hi hp h2, mRow_a, show (mRow σ 33 r).2.1 j = σ.2.1 j from if_neg hj]
theorem m_cr {N j i p : Nat} {σ : MS} (hi : i < mLen j) (hp : p < 400) (h2 : mLen j ≤ 1000) : f_cell N j σ (iI i) (iI p) 1 = some (iI ((p + 1 : Nat) : Int), mArr σ j i (σ.2.1 33 p)) := by
  obtain ⟨t1, t2⟩ := t_ix (a := (i : Int)) (n := mLen j) (k := i) rfl hi (by omega)
  obtain ⟨t3, t4⟩ := t_ix (a := (p : Int)) (n := mLen 33) (k := p) rfl (by rw [show mLen 33 = 400 from rfl]; omega) (by rw [show mLen 33 = 400 from rfl]; omega)
  have ep : iI (p : Int) + 1 = iI ((p + 1 : Nat) : Int) := by
    rw [j1, i_add]
    rfl
  unfold f_cell f_cell_26
  rw [if_neg n10, if_pos t3, p_let, t4, if_pos t1, p_let, t2, ep]
theorem m_sva {N : Nat} {σ : MS} : ∀ (d k q : Nat) (r : Nat → Int32), k + d = 64 → ∃ r' : Nat → Int32, (∀ p, p < 0 + 4 * k ∨ 256 ≤ p → r' p = r p) ∧ (∀ i, k ≤ i → i < 64 → r' (0 + 4 * i + 0) = σ.2.1 14 i ∧ r' (0 + 4 * i + 1) = σ.2.1 16 i ∧ r' (0 + 4 * i + 2) = σ.2.1 20 i ∧ r' (0 + 4 * i + 3) = σ.2.1 21 i) ∧ f_store_4 N (q + d) (mRow σ 33 r) 0 (iI ((0 + 4 * k : Nat) : Int)) (iI k) = f_store_4 N q (mRow σ 33 r') 0 (iI ((256 : Nat) : Int)) (iI ((64 : Nat) : Int)) := by
  intro d
  induction d with
  | zero =>
    intro k q r hk
    refine ⟨r, fun p _ => rfl, fun i i1 i2 => by omega, ?_⟩
    rw [show k = 64 by omega]
    rfl
  | succ d ih =>
    intro k q r hk
    obtain ⟨r', w1, w2, w3⟩ := ih (k + 1) q (upd (upd (upd (upd r (0 + 4 * k + 0) (σ.2.1 14 k)) (0 + 4 * k + 1) (σ.2.1 16 k)) (0 + 4 * k + 2) (σ.2.1 20 k)) (0 + 4 * k + 3) (σ.2.1 21 k)) (by omega)
    refine ⟨r', fun p hp => ?_, fun i i1 i2 => ?_, ?_⟩
    · rw [w1 p (by omega), upd_n (by omega), upd_n (by omega), upd_n (by omega), upd_n (by omega)]
    · by_cases c : i = k
      · subst c
        refine ⟨?_, ?_, ?_, ?_⟩
        · rw [w1 _ (by omega), upd_n (by omega), upd_n (by omega), upd_n (by omega), upd_s]
        · rw [w1 _ (by omega), upd_n (by omega), upd_n (by omega), upd_s]
        · rw [w1 _ (by omega), upd_n (by omega), upd_s]
        · rw [w1 _ (by omega), upd_s]
      · exact w2 i (by omega) i2
    · have ek : iI (k : Int) + 1 = iI ((k + 1 : Nat) : Int) := by
        rw [j1, i_add]
        rfl
      rw [show q + (d + 1) = (q + d) + 1 by omega, f_store_4, show (64 : Int32) = iI 64 from rfl, n_le (by omega) (by omega) (by omega) (by omega) (by omega), show iI ((0 + 4 * k : Nat) : Int) = iI ((0 + 4 * k + 0 : Nat) : Int) from rfl, m_csR (N := N) (j := 14) (i := k) (p := 0 + 4 * k + 0) (σ := σ) (r := r) (by rw [show mLen 14 = 64 from rfl]; omega) (by omega) (by rw [show mLen 14 = 64 from rfl]; omega) (by decide), q_mc, show iI ((0 + 4 * k + 1 : Nat) : Int) = iI ((0 + 4 * k + 1 : Nat) : Int) from rfl, m_csR (N := N) (j := 16) (i := k) (p := 0 + 4 * k + 1) (σ := σ) (r := (upd r (0 + 4 * k + 0) (σ.2.1 14 k))) (by rw [show mLen 16 = 64 from rfl]; omega) (by omega) (by rw [show mLen 16 = 64 from rfl]; omega) (by decide), q_mc, show iI ((0 + 4 * k + 2 : Nat) : Int) = iI ((0 + 4 * k + 2 : Nat) : Int) from rfl, m_csR (N := N) (j := 20) (i := k) (p := 0 + 4 * k + 2) (σ := σ) (r := (upd (upd r (0 + 4 * k + 0) (σ.2.1 14 k)) (0 + 4 * k + 1) (σ.2.1 16 k))) (by rw [show mLen 20 = 64 from rfl]; omega) (by omega) (by rw [show mLen 20 = 64 from rfl]; omega) (by decide), q_mc, show iI ((0 + 4 * k + 3 : Nat) : Int) = iI ((0 + 4 * k + 3 : Nat) : Int) from rfl, m_csR (N := N) (j := 21) (i := k) (p := 0 + 4 * k + 3) (σ := σ) (r := (upd (upd (upd r (0 + 4 * k + 0) (σ.2.1 14 k)) (0 + 4 * k + 1) (σ.2.1 16 k)) (0 + 4 * k + 2) (σ.2.1 20 k))) (by rw [show mLen 21 = 64 from rfl]; omega) (by omega) (by rw [show mLen 21 = 64 from rfl]; omega) (by decide), q_mc, ek, p_let]
      rw [show 0 + 4 * (k + 1) = 0 + 4 * k + 4 by omega] at w3
      exact w3
theorem m_rsa {N : Nat} : ∀ (d k q : Nat) (σ : MS), k + d = 64 → ∃ σ' : MS, σ'.1 = σ.1 ∧ σ'.2.2 = σ.2.2 ∧ (∀ j, j ≠ 14 → j ≠ 16 → j ≠ 20 → j ≠ 21 → σ'.2.1 j = σ.2.1 j) ∧ (∀ i, (k ≤ i → i < 64 → σ'.2.1 14 i = σ.2.1 33 (0 + 4 * i + 0) ∧ σ'.2.1 16 i = σ.2.1 33 (0 + 4 * i + 1) ∧ σ'.2.1 20 i = σ.2.1 33 (0 + 4 * i + 2) ∧ σ'.2.1 21 i = σ.2.1 33 (0 + 4 * i + 3)) ∧ ((i < k ∨ 64 ≤ i) → σ'.2.1 14 i = σ.2.1 14 i ∧ σ'.2.1 16 i = σ.2.1 16 i ∧ σ'.2.1 20 i = σ.2.1 20 i ∧ σ'.2.1 21 i = σ.2.1 21 i)) ∧ f_store_4 N (q + d) σ 1 (iI ((0 + 4 * k : Nat) : Int)) (iI k) = f_store_4 N q σ' 1 (iI ((256 : Nat) : Int)) (iI ((64 : Nat) : Int)) := by
  intro d
  induction d with
  | zero =>
    intro k q σ hk
    refine ⟨σ, rfl, rfl, fun j _ _ _ _ => rfl, fun i => ⟨fun i1 i2 => by omega, fun _ => ⟨rfl, rfl, rfl, rfl⟩⟩, ?_⟩
    rw [show k = 64 by omega]
    rfl
  | succ d ih =>
    intro k q σ hk
    obtain ⟨σ1, hσ1⟩ : ∃ s : MS, s = (mArr (mArr (mArr (mArr σ 14 k (σ.2.1 33 (0 + 4 * k + 0))) 16 k (σ.2.1 33 (0 + 4 * k + 1))) 20 k (σ.2.1 33 (0 + 4 * k + 2))) 21 k (σ.2.1 33 (0 + 4 * k + 3))) := ⟨_, rfl⟩
    have f1 : σ1.1 = σ.1 := by rw [hσ1]; rfl
    have f2 : σ1.2.2 = σ.2.2 := by rw [hσ1]; rfl
    have f3 : ∀ j, j ≠ 14 → j ≠ 16 → j ≠ 20 → j ≠ 21 → σ1.2.1 j = σ.2.1 j := fun j h0 h1 h2 h3 => by rw [hσ1, mArr_n h3, mArr_n h2, mArr_n h1, mArr_n h0]
    have g0 : σ1.2.1 14 = upd (σ.2.1 14) k (σ.2.1 33 (0 + 4 * k + 0)) := by rw [hσ1, mArr_n (by decide), mArr_n (by decide), mArr_n (by decide), mArr_s]
    have g1 : σ1.2.1 16 = upd (σ.2.1 16) k (σ.2.1 33 (0 + 4 * k + 1)) := by rw [hσ1, mArr_n (by decide), mArr_n (by decide), mArr_s, mArr_n (by decide)]
    have g2 : σ1.2.1 20 = upd (σ.2.1 20) k (σ.2.1 33 (0 + 4 * k + 2)) := by rw [hσ1, mArr_n (by decide), mArr_s, mArr_n (by decide), mArr_n (by decide)]
    have g3 : σ1.2.1 21 = upd (σ.2.1 21) k (σ.2.1 33 (0 + 4 * k + 3)) := by rw [hσ1, mArr_s, mArr_n (by decide), mArr_n (by decide), mArr_n (by decide)]
    obtain ⟨σ', w1, w2, w3, w4, w5⟩ := ih (k + 1) q σ1 (by omega)
    refine ⟨σ', w1.trans f1, w2.trans f2, fun j h0 h1 h2 h3 => (w3 j h0 h1 h2 h3).trans (f3 j h0 h1 h2 h3), fun i => ⟨fun i1 i2 => ?_, fun hi => ?_⟩, ?_⟩
    · by_cases c : i = k
      · subst c
        obtain ⟨e0, e1, e2, e3⟩ := (w4 i).2 (Or.inl (by omega))
        rw [e0, g0, e1, g1, e2, g2, e3, g3]
        exact ⟨upd_s, upd_s, upd_s, upd_s⟩
      · have := (w4 i).1 (by omega) i2
        rw [f3 33 (by decide) (by decide) (by decide) (by decide)] at this
        exact this
    · obtain ⟨e0, e1, e2, e3⟩ := (w4 i).2 (by omega)
      rw [e0, g0, e1, g1, e2, g2, e3, g3]
      exact ⟨upd_n (by omega), upd_n (by omega), upd_n (by omega), upd_n (by omega)⟩
    · have ek : iI (k : Int) + 1 = iI ((k + 1 : Nat) : Int) := by
        rw [j1, i_add]
        rfl
      rw [show q + (d + 1) = (q + d) + 1 by omega, f_store_4, show (64 : Int32) = iI 64 from rfl, n_le (by omega) (by omega) (by omega) (by omega) (by omega), show iI ((0 + 4 * k : Nat) : Int) = iI ((0 + 4 * k + 0 : Nat) : Int) from rfl, m_cr (N := N) (j := 14) (i := k) (p := 0 + 4 * k + 0) (σ := σ) (by rw [show mLen 14 = 64 from rfl]; omega) (by omega) (by rw [show mLen 14 = 64 from rfl]; omega), q_mc, show iI ((0 + 4 * k + 1 : Nat) : Int) = iI ((0 + 4 * k + 1 : Nat) : Int) from rfl, m_cr (N := N) (j := 16) (i := k) (p := 0 + 4 * k + 1) (σ := (mArr σ 14 k (σ.2.1 33 (0 + 4 * k + 0)))) (by rw [show mLen 16 = 64 from rfl]; omega) (by omega) (by rw [show mLen 16 = 64 from rfl]; omega), q_mc, show (mArr σ 14 k (σ.2.1 33 (0 + 4 * k + 0))).2.1 33 = σ.2.1 33 from rfl, show iI ((0 + 4 * k + 2 : Nat) : Int) = iI ((0 + 4 * k + 2 : Nat) : Int) from rfl, m_cr (N := N) (j := 20) (i := k) (p := 0 + 4 * k + 2) (σ := (mArr (mArr σ 14 k (σ.2.1 33 (0 + 4 * k + 0))) 16 k (σ.2.1 33 (0 + 4 * k + 1)))) (by rw [show mLen 20 = 64 from rfl]; omega) (by omega) (by rw [show mLen 20 = 64 from rfl]; omega), q_mc, show (mArr (mArr σ 14 k (σ.2.1 33 (0 + 4 * k + 0))) 16 k (σ.2.1 33 (0 + 4 * k + 1))).2.1 33 = σ.2.1 33 from rfl, show iI ((0 + 4 * k + 3 : Nat) : Int) = iI ((0 + 4 * k + 3 : Nat) : Int) from rfl, m_cr (N := N) (j := 21) (i := k) (p := 0 + 4 * k + 3) (σ := (mArr (mArr (mArr σ 14 k (σ.2.1 33 (0 + 4 * k + 0))) 16 k (σ.2.1 33 (0 + 4 * k + 1))) 20 k (σ.2.1 33 (0 + 4 * k + 2)))) (by rw [show mLen 21 = 64 from rfl]; omega) (by omega) (by rw [show mLen 21 = 64 from rfl]; omega), q_mc, show (mArr (mArr (mArr σ 14 k (σ.2.1 33 (0 + 4 * k + 0))) 16 k (σ.2.1 33 (0 + 4 * k + 1))) 20 k (σ.2.1 33 (0 + 4 * k + 2))).2.1 33 = σ.2.1 33 from rfl, ek, p_let, ← hσ1]
      rw [show 0 + 4 * (k + 1) = 0 + 4 * k + 4 by omega] at w5
      exact w5
theorem m_svb {N : Nat} {σ : MS} : ∀ (d k q : Nat) (r : Nat → Int32), k + d = 8 → ∃ r' : Nat → Int32, (∀ p, p < 256 + 4 * k ∨ 288 ≤ p → r' p = r p) ∧ (∀ i, k ≤ i → i < 8 → r' (256 + 4 * i + 0) = σ.2.1 15 i ∧ r' (256 + 4 * i + 1) = σ.2.1 17 i ∧ r' (256 + 4 * i + 2) = σ.2.1 18 i ∧ r' (256 + 4 * i + 3) = σ.2.1 19 i) ∧ f_store_66 N (q + d) (mRow σ 33 r) 0 (iI ((256 + 4 * k : Nat) : Int)) (iI k) = f_store_66 N q (mRow σ 33 r') 0 (iI ((288 : Nat) : Int)) (iI ((8 : Nat) : Int)) := by
  intro d
  induction d with
  | zero =>
    intro k q r hk
    refine ⟨r, fun p _ => rfl, fun i i1 i2 => by omega, ?_⟩
    rw [show k = 8 by omega]
    rfl
  | succ d ih =>
    intro k q r hk
    obtain ⟨r', w1, w2, w3⟩ := ih (k + 1) q (upd (upd (upd (upd r (256 + 4 * k + 0) (σ.2.1 15 k)) (256 + 4 * k + 1) (σ.2.1 17 k)) (256 + 4 * k + 2) (σ.2.1 18 k)) (256 + 4 * k + 3) (σ.2.1 19 k)) (by omega)
    refine ⟨r', fun p hp => ?_, fun i i1 i2 => ?_, ?_⟩
    · rw [w1 p (by omega), upd_n (by omega), upd_n (by omega), upd_n (by omega), upd_n (by omega)]
    · by_cases c : i = k
      · subst c
        refine ⟨?_, ?_, ?_, ?_⟩
        · rw [w1 _ (by omega), upd_n (by omega), upd_n (by omega), upd_n (by omega), upd_s]
        · rw [w1 _ (by omega), upd_n (by omega), upd_n (by omega), upd_s]
        · rw [w1 _ (by omega), upd_n (by omega), upd_s]
        · rw [w1 _ (by omega), upd_s]
      · exact w2 i (by omega) i2
    · have ek : iI (k : Int) + 1 = iI ((k + 1 : Nat) : Int) := by
        rw [j1, i_add]
        rfl
      rw [show q + (d + 1) = (q + d) + 1 by omega, f_store_66, show (8 : Int32) = iI 8 from rfl, n_le (by omega) (by omega) (by omega) (by omega) (by omega), show iI ((256 + 4 * k : Nat) : Int) = iI ((256 + 4 * k + 0 : Nat) : Int) from rfl, m_csR (N := N) (j := 15) (i := k) (p := 256 + 4 * k + 0) (σ := σ) (r := r) (by rw [show mLen 15 = 8 from rfl]; omega) (by omega) (by rw [show mLen 15 = 8 from rfl]; omega) (by decide), q_mc, show iI ((256 + 4 * k + 1 : Nat) : Int) = iI ((256 + 4 * k + 1 : Nat) : Int) from rfl, m_csR (N := N) (j := 17) (i := k) (p := 256 + 4 * k + 1) (σ := σ) (r := (upd r (256 + 4 * k + 0) (σ.2.1 15 k))) (by rw [show mLen 17 = 8 from rfl]; omega) (by omega) (by rw [show mLen 17 = 8 from rfl]; omega) (by decide), q_mc, show iI ((256 + 4 * k + 2 : Nat) : Int) = iI ((256 + 4 * k + 2 : Nat) : Int) from rfl, m_csR (N := N) (j := 18) (i := k) (p := 256 + 4 * k + 2) (σ := σ) (r := (upd (upd r (256 + 4 * k + 0) (σ.2.1 15 k)) (256 + 4 * k + 1) (σ.2.1 17 k))) (by rw [show mLen 18 = 8 from rfl]; omega) (by omega) (by rw [show mLen 18 = 8 from rfl]; omega) (by decide), q_mc, show iI ((256 + 4 * k + 3 : Nat) : Int) = iI ((256 + 4 * k + 3 : Nat) : Int) from rfl, m_csR (N := N) (j := 19) (i := k) (p := 256 + 4 * k + 3) (σ := σ) (r := (upd (upd (upd r (256 + 4 * k + 0) (σ.2.1 15 k)) (256 + 4 * k + 1) (σ.2.1 17 k)) (256 + 4 * k + 2) (σ.2.1 18 k))) (by rw [show mLen 19 = 8 from rfl]; omega) (by omega) (by rw [show mLen 19 = 8 from rfl]; omega) (by decide), q_mc, ek, p_let]
      rw [show 256 + 4 * (k + 1) = 256 + 4 * k + 4 by omega] at w3
      exact w3
theorem m_rsb {N : Nat} : ∀ (d k q : Nat) (σ : MS), k + d = 8 → ∃ σ' : MS, σ'.1 = σ.1 ∧ σ'.2.2 = σ.2.2 ∧ (∀ j, j ≠ 15 → j ≠ 17 → j ≠ 18 → j ≠ 19 → σ'.2.1 j = σ.2.1 j) ∧ (∀ i, (k ≤ i → i < 8 → σ'.2.1 15 i = σ.2.1 33 (256 + 4 * i + 0) ∧ σ'.2.1 17 i = σ.2.1 33 (256 + 4 * i + 1) ∧ σ'.2.1 18 i = σ.2.1 33 (256 + 4 * i + 2) ∧ σ'.2.1 19 i = σ.2.1 33 (256 + 4 * i + 3)) ∧ ((i < k ∨ 8 ≤ i) → σ'.2.1 15 i = σ.2.1 15 i ∧ σ'.2.1 17 i = σ.2.1 17 i ∧ σ'.2.1 18 i = σ.2.1 18 i ∧ σ'.2.1 19 i = σ.2.1 19 i)) ∧ f_store_66 N (q + d) σ 1 (iI ((256 + 4 * k : Nat) : Int)) (iI k) = f_store_66 N q σ' 1 (iI ((288 : Nat) : Int)) (iI ((8 : Nat) : Int)) := by
  intro d
  induction d with
  | zero =>
    intro k q σ hk
    refine ⟨σ, rfl, rfl, fun j _ _ _ _ => rfl, fun i => ⟨fun i1 i2 => by omega, fun _ => ⟨rfl, rfl, rfl, rfl⟩⟩, ?_⟩
    rw [show k = 8 by omega]
    rfl
  | succ d ih =>
    intro k q σ hk
    obtain ⟨σ1, hσ1⟩ : ∃ s : MS, s = (mArr (mArr (mArr (mArr σ 15 k (σ.2.1 33 (256 + 4 * k + 0))) 17 k (σ.2.1 33 (256 + 4 * k + 1))) 18 k (σ.2.1 33 (256 + 4 * k + 2))) 19 k (σ.2.1 33 (256 + 4 * k + 3))) := ⟨_, rfl⟩
    have f1 : σ1.1 = σ.1 := by rw [hσ1]; rfl
    have f2 : σ1.2.2 = σ.2.2 := by rw [hσ1]; rfl
    have f3 : ∀ j, j ≠ 15 → j ≠ 17 → j ≠ 18 → j ≠ 19 → σ1.2.1 j = σ.2.1 j := fun j h0 h1 h2 h3 => by rw [hσ1, mArr_n h3, mArr_n h2, mArr_n h1, mArr_n h0]
    have g0 : σ1.2.1 15 = upd (σ.2.1 15) k (σ.2.1 33 (256 + 4 * k + 0)) := by rw [hσ1, mArr_n (by decide), mArr_n (by decide), mArr_n (by decide), mArr_s]
    have g1 : σ1.2.1 17 = upd (σ.2.1 17) k (σ.2.1 33 (256 + 4 * k + 1)) := by rw [hσ1, mArr_n (by decide), mArr_n (by decide), mArr_s, mArr_n (by decide)]
    have g2 : σ1.2.1 18 = upd (σ.2.1 18) k (σ.2.1 33 (256 + 4 * k + 2)) := by rw [hσ1, mArr_n (by decide), mArr_s, mArr_n (by decide), mArr_n (by decide)]
    have g3 : σ1.2.1 19 = upd (σ.2.1 19) k (σ.2.1 33 (256 + 4 * k + 3)) := by rw [hσ1, mArr_s, mArr_n (by decide), mArr_n (by decide), mArr_n (by decide)]
    obtain ⟨σ', w1, w2, w3, w4, w5⟩ := ih (k + 1) q σ1 (by omega)
    refine ⟨σ', w1.trans f1, w2.trans f2, fun j h0 h1 h2 h3 => (w3 j h0 h1 h2 h3).trans (f3 j h0 h1 h2 h3), fun i => ⟨fun i1 i2 => ?_, fun hi => ?_⟩, ?_⟩
    · by_cases c : i = k
      · subst c
        obtain ⟨e0, e1, e2, e3⟩ := (w4 i).2 (Or.inl (by omega))
        rw [e0, g0, e1, g1, e2, g2, e3, g3]
        exact ⟨upd_s, upd_s, upd_s, upd_s⟩
      · have := (w4 i).1 (by omega) i2
        rw [f3 33 (by decide) (by decide) (by decide) (by decide)] at this
        exact this
    · obtain ⟨e0, e1, e2, e3⟩ := (w4 i).2 (by omega)
      rw [e0, g0, e1, g1, e2, g2, e3, g3]
      exact ⟨upd_n (by omega), upd_n (by omega), upd_n (by omega), upd_n (by omega)⟩
    · have ek : iI (k : Int) + 1 = iI ((k + 1 : Nat) : Int) := by
        rw [j1, i_add]
        rfl
      rw [show q + (d + 1) = (q + d) + 1 by omega, f_store_66, show (8 : Int32) = iI 8 from rfl, n_le (by omega) (by omega) (by omega) (by omega) (by omega), show iI ((256 + 4 * k : Nat) : Int) = iI ((256 + 4 * k + 0 : Nat) : Int) from rfl, m_cr (N := N) (j := 15) (i := k) (p := 256 + 4 * k + 0) (σ := σ) (by rw [show mLen 15 = 8 from rfl]; omega) (by omega) (by rw [show mLen 15 = 8 from rfl]; omega), q_mc, show iI ((256 + 4 * k + 1 : Nat) : Int) = iI ((256 + 4 * k + 1 : Nat) : Int) from rfl, m_cr (N := N) (j := 17) (i := k) (p := 256 + 4 * k + 1) (σ := (mArr σ 15 k (σ.2.1 33 (256 + 4 * k + 0)))) (by rw [show mLen 17 = 8 from rfl]; omega) (by omega) (by rw [show mLen 17 = 8 from rfl]; omega), q_mc, show (mArr σ 15 k (σ.2.1 33 (256 + 4 * k + 0))).2.1 33 = σ.2.1 33 from rfl, show iI ((256 + 4 * k + 2 : Nat) : Int) = iI ((256 + 4 * k + 2 : Nat) : Int) from rfl, m_cr (N := N) (j := 18) (i := k) (p := 256 + 4 * k + 2) (σ := (mArr (mArr σ 15 k (σ.2.1 33 (256 + 4 * k + 0))) 17 k (σ.2.1 33 (256 + 4 * k + 1)))) (by rw [show mLen 18 = 8 from rfl]; omega) (by omega) (by rw [show mLen 18 = 8 from rfl]; omega), q_mc, show (mArr (mArr σ 15 k (σ.2.1 33 (256 + 4 * k + 0))) 17 k (σ.2.1 33 (256 + 4 * k + 1))).2.1 33 = σ.2.1 33 from rfl, show iI ((256 + 4 * k + 3 : Nat) : Int) = iI ((256 + 4 * k + 3 : Nat) : Int) from rfl, m_cr (N := N) (j := 19) (i := k) (p := 256 + 4 * k + 3) (σ := (mArr (mArr (mArr σ 15 k (σ.2.1 33 (256 + 4 * k + 0))) 17 k (σ.2.1 33 (256 + 4 * k + 1))) 18 k (σ.2.1 33 (256 + 4 * k + 2)))) (by rw [show mLen 19 = 8 from rfl]; omega) (by omega) (by rw [show mLen 19 = 8 from rfl]; omega), q_mc, show (mArr (mArr (mArr σ 15 k (σ.2.1 33 (256 + 4 * k + 0))) 17 k (σ.2.1 33 (256 + 4 * k + 1))) 18 k (σ.2.1 33 (256 + 4 * k + 2))).2.1 33 = σ.2.1 33 from rfl, ek, p_let, ← hσ1]
      rw [show 256 + 4 * (k + 1) = 256 + 4 * k + 4 by omega] at w5
      exact w5
theorem m_svc {N : Nat} {σ : MS} : ∀ (d k q : Nat) (r : Nat → Int32), k + d = 6 → ∃ r' : Nat → Int32, (∀ p, p < 288 + 3 * k ∨ 306 ≤ p → r' p = r p) ∧ (∀ i, k ≤ i → i < 6 → r' (288 + 3 * i + 0) = σ.2.1 30 i ∧ r' (288 + 3 * i + 1) = σ.2.1 31 i ∧ r' (288 + 3 * i + 2) = σ.2.1 32 i) ∧ f_store_128 N (q + d) (mRow σ 33 r) 0 (iI ((288 + 3 * k : Nat) : Int)) (iI k) = f_store_128 N q (mRow σ 33 r') 0 (iI ((306 : Nat) : Int)) (iI ((6 : Nat) : Int)) := by
  intro d
  induction d with
  | zero =>
    intro k q r hk
    refine ⟨r, fun p _ => rfl, fun i i1 i2 => by omega, ?_⟩
    rw [show k = 6 by omega]
    rfl
  | succ d ih =>
    intro k q r hk
    obtain ⟨r', w1, w2, w3⟩ := ih (k + 1) q (upd (upd (upd r (288 + 3 * k + 0) (σ.2.1 30 k)) (288 + 3 * k + 1) (σ.2.1 31 k)) (288 + 3 * k + 2) (σ.2.1 32 k)) (by omega)
    refine ⟨r', fun p hp => ?_, fun i i1 i2 => ?_, ?_⟩
    · rw [w1 p (by omega), upd_n (by omega), upd_n (by omega), upd_n (by omega)]
    · by_cases c : i = k
      · subst c
        refine ⟨?_, ?_, ?_⟩
        · rw [w1 _ (by omega), upd_n (by omega), upd_n (by omega), upd_s]
        · rw [w1 _ (by omega), upd_n (by omega), upd_s]
        · rw [w1 _ (by omega), upd_s]
      · exact w2 i (by omega) i2
    · have ek : iI (k : Int) + 1 = iI ((k + 1 : Nat) : Int) := by
        rw [j1, i_add]
        rfl
      rw [show q + (d + 1) = (q + d) + 1 by omega, f_store_128, show (6 : Int32) = iI 6 from rfl, n_le (by omega) (by omega) (by omega) (by omega) (by omega), show iI ((288 + 3 * k : Nat) : Int) = iI ((288 + 3 * k + 0 : Nat) : Int) from rfl, m_csR (N := N) (j := 30) (i := k) (p := 288 + 3 * k + 0) (σ := σ) (r := r) (by rw [show mLen 30 = 6 from rfl]; omega) (by omega) (by rw [show mLen 30 = 6 from rfl]; omega) (by decide), q_mc, show iI ((288 + 3 * k + 1 : Nat) : Int) = iI ((288 + 3 * k + 1 : Nat) : Int) from rfl, m_csR (N := N) (j := 31) (i := k) (p := 288 + 3 * k + 1) (σ := σ) (r := (upd r (288 + 3 * k + 0) (σ.2.1 30 k))) (by rw [show mLen 31 = 6 from rfl]; omega) (by omega) (by rw [show mLen 31 = 6 from rfl]; omega) (by decide), q_mc, show iI ((288 + 3 * k + 2 : Nat) : Int) = iI ((288 + 3 * k + 2 : Nat) : Int) from rfl, m_csR (N := N) (j := 32) (i := k) (p := 288 + 3 * k + 2) (σ := σ) (r := (upd (upd r (288 + 3 * k + 0) (σ.2.1 30 k)) (288 + 3 * k + 1) (σ.2.1 31 k))) (by rw [show mLen 32 = 6 from rfl]; omega) (by omega) (by rw [show mLen 32 = 6 from rfl]; omega) (by decide), q_mc, ek, p_let]
      rw [show 288 + 3 * (k + 1) = 288 + 3 * k + 3 by omega] at w3
      exact w3
theorem m_rsc {N : Nat} : ∀ (d k q : Nat) (σ : MS), k + d = 6 → ∃ σ' : MS, σ'.1 = σ.1 ∧ σ'.2.2 = σ.2.2 ∧ (∀ j, j ≠ 30 → j ≠ 31 → j ≠ 32 → σ'.2.1 j = σ.2.1 j) ∧ (∀ i, (k ≤ i → i < 6 → σ'.2.1 30 i = σ.2.1 33 (288 + 3 * i + 0) ∧ σ'.2.1 31 i = σ.2.1 33 (288 + 3 * i + 1) ∧ σ'.2.1 32 i = σ.2.1 33 (288 + 3 * i + 2)) ∧ ((i < k ∨ 6 ≤ i) → σ'.2.1 30 i = σ.2.1 30 i ∧ σ'.2.1 31 i = σ.2.1 31 i ∧ σ'.2.1 32 i = σ.2.1 32 i)) ∧ f_store_128 N (q + d) σ 1 (iI ((288 + 3 * k : Nat) : Int)) (iI k) = f_store_128 N q σ' 1 (iI ((306 : Nat) : Int)) (iI ((6 : Nat) : Int)) := by
  intro d
  induction d with
  | zero =>
    intro k q σ hk
    refine ⟨σ, rfl, rfl, fun j _ _ _ => rfl, fun i => ⟨fun i1 i2 => by omega, fun _ => ⟨rfl, rfl, rfl⟩⟩, ?_⟩
    rw [show k = 6 by omega]
    rfl
  | succ d ih =>
    intro k q σ hk
    obtain ⟨σ1, hσ1⟩ : ∃ s : MS, s = (mArr (mArr (mArr σ 30 k (σ.2.1 33 (288 + 3 * k + 0))) 31 k (σ.2.1 33 (288 + 3 * k + 1))) 32 k (σ.2.1 33 (288 + 3 * k + 2))) := ⟨_, rfl⟩
    have f1 : σ1.1 = σ.1 := by rw [hσ1]; rfl
    have f2 : σ1.2.2 = σ.2.2 := by rw [hσ1]; rfl
    have f3 : ∀ j, j ≠ 30 → j ≠ 31 → j ≠ 32 → σ1.2.1 j = σ.2.1 j := fun j h0 h1 h2 => by rw [hσ1, mArr_n h2, mArr_n h1, mArr_n h0]
    have g0 : σ1.2.1 30 = upd (σ.2.1 30) k (σ.2.1 33 (288 + 3 * k + 0)) := by rw [hσ1, mArr_n (by decide), mArr_n (by decide), mArr_s]
    have g1 : σ1.2.1 31 = upd (σ.2.1 31) k (σ.2.1 33 (288 + 3 * k + 1)) := by rw [hσ1, mArr_n (by decide), mArr_s, mArr_n (by decide)]
    have g2 : σ1.2.1 32 = upd (σ.2.1 32) k (σ.2.1 33 (288 + 3 * k + 2)) := by rw [hσ1, mArr_s, mArr_n (by decide), mArr_n (by decide)]
    obtain ⟨σ', w1, w2, w3, w4, w5⟩ := ih (k + 1) q σ1 (by omega)
    refine ⟨σ', w1.trans f1, w2.trans f2, fun j h0 h1 h2 => (w3 j h0 h1 h2).trans (f3 j h0 h1 h2), fun i => ⟨fun i1 i2 => ?_, fun hi => ?_⟩, ?_⟩
    · by_cases c : i = k
      · subst c
        obtain ⟨e0, e1, e2⟩ := (w4 i).2 (Or.inl (by omega))
        rw [e0, g0, e1, g1, e2, g2]
        exact ⟨upd_s, upd_s, upd_s⟩
      · have := (w4 i).1 (by omega) i2
        rw [f3 33 (by decide) (by decide) (by decide)] at this
        exact this
    · obtain ⟨e0, e1, e2⟩ := (w4 i).2 (by omega)
      rw [e0, g0, e1, g1, e2, g2]
      exact ⟨upd_n (by omega), upd_n (by omega), upd_n (by omega)⟩
    · have ek : iI (k : Int) + 1 = iI ((k + 1 : Nat) : Int) := by
        rw [j1, i_add]
        rfl
      rw [show q + (d + 1) = (q + d) + 1 by omega, f_store_128, show (6 : Int32) = iI 6 from rfl, n_le (by omega) (by omega) (by omega) (by omega) (by omega), show iI ((288 + 3 * k : Nat) : Int) = iI ((288 + 3 * k + 0 : Nat) : Int) from rfl, m_cr (N := N) (j := 30) (i := k) (p := 288 + 3 * k + 0) (σ := σ) (by rw [show mLen 30 = 6 from rfl]; omega) (by omega) (by rw [show mLen 30 = 6 from rfl]; omega), q_mc, show iI ((288 + 3 * k + 1 : Nat) : Int) = iI ((288 + 3 * k + 1 : Nat) : Int) from rfl, m_cr (N := N) (j := 31) (i := k) (p := 288 + 3 * k + 1) (σ := (mArr σ 30 k (σ.2.1 33 (288 + 3 * k + 0)))) (by rw [show mLen 31 = 6 from rfl]; omega) (by omega) (by rw [show mLen 31 = 6 from rfl]; omega), q_mc, show (mArr σ 30 k (σ.2.1 33 (288 + 3 * k + 0))).2.1 33 = σ.2.1 33 from rfl, show iI ((288 + 3 * k + 2 : Nat) : Int) = iI ((288 + 3 * k + 2 : Nat) : Int) from rfl, m_cr (N := N) (j := 32) (i := k) (p := 288 + 3 * k + 2) (σ := (mArr (mArr σ 30 k (σ.2.1 33 (288 + 3 * k + 0))) 31 k (σ.2.1 33 (288 + 3 * k + 1)))) (by rw [show mLen 32 = 6 from rfl]; omega) (by omega) (by rw [show mLen 32 = 6 from rfl]; omega), q_mc, show (mArr (mArr σ 30 k (σ.2.1 33 (288 + 3 * k + 0))) 31 k (σ.2.1 33 (288 + 3 * k + 1))).2.1 33 = σ.2.1 33 from rfl, ek, p_let, ← hσ1]
      rw [show 288 + 3 * (k + 1) = 288 + 3 * k + 3 by omega] at w5
      exact w5
theorem m_save {N : Nat} {σ : MS} (hN : 2000 ≤ N) : ∃ r' : Nat → Int32, f_store N σ 0 = some (mRow σ 33 r') ∧ (∀ i, i < 64 → r' (0 + 4 * i + 0) = σ.2.1 14 i ∧ r' (0 + 4 * i + 1) = σ.2.1 16 i ∧ r' (0 + 4 * i + 2) = σ.2.1 20 i ∧ r' (0 + 4 * i + 3) = σ.2.1 21 i) ∧ (∀ i, i < 8 → r' (256 + 4 * i + 0) = σ.2.1 15 i ∧ r' (256 + 4 * i + 1) = σ.2.1 17 i ∧ r' (256 + 4 * i + 2) = σ.2.1 18 i ∧ r' (256 + 4 * i + 3) = σ.2.1 19 i) ∧ (∀ i, i < 6 → r' (288 + 3 * i + 0) = σ.2.1 30 i ∧ r' (288 + 3 * i + 1) = σ.2.1 31 i ∧ r' (288 + 3 * i + 2) = σ.2.1 32 i) ∧ ∀ i, i < 7 → r' (306 + i) = σ.1 (22 + i) := by
  obtain ⟨r1, a1, a2, a3⟩ := m_sva (N := N) (σ := σ) 64 0 (N - 64) (σ.2.1 33) (by omega)
  obtain ⟨r2, b1, b2, b3⟩ := m_svb (N := N) (σ := σ) 8 0 (N - 8) r1 (by omega)
  obtain ⟨r3, c1, c2, c3⟩ := m_svc (N := N) (σ := σ) 6 0 (N - 6) r2 (by omega)
  rw [Nat.sub_add_cancel (by omega)] at a3 b3 c3
  rw [mRow_id] at a3
  obtain ⟨q1, h1⟩ : ∃ q, N - 64 = q + 1 := ⟨N - 64 - 1, by omega⟩
  obtain ⟨q2, h2⟩ : ∃ q, N - 8 = q + 1 := ⟨N - 8 - 1, by omega⟩
  obtain ⟨q3, h3⟩ : ∃ q, N - 6 = q + 1 := ⟨N - 6 - 1, by omega⟩
  rw [h1] at a3
  rw [h2] at b3
  rw [h3] at c3
  have a3 : f_store_4 N N σ 0 0 0 = _ := a3
  have b3 : f_store_66 N N (mRow σ 33 r1) 0 (iI ((256 : Nat) : Int)) 0 = _ := b3
  have c3 : f_store_128 N N (mRow σ 33 r2) 0 (iI ((288 : Nat) : Int)) 0 = _ := c3
  have ix : ∀ i : Nat, i < 7 → mIn (iI ((306 : Nat) : Int) + iI (i : Int)) (mLen 33) = true ∧ (iI ((306 : Nat) : Int) + iI (i : Int)).toNatClampNeg = 306 + i := fun i hi => by
    rw [i_add]
    exact t_ix (k := 306 + i) rfl (by rw [show mLen 33 = 400 from rfl]; omega) (by rw [show mLen 33 = 400 from rfl]; omega)
  have t0 : mIn (iI ((306 : Nat) : Int)) (mLen 33) = true ∧ (iI ((306 : Nat) : Int)).toNatClampNeg = 306 := t_ix (k := 306) rfl (by rw [show mLen 33 = 400 from rfl]; omega) (by rw [show mLen 33 = 400 from rfl]; omega)
  have t1 : mIn (iI ((306 : Nat) : Int) + 1) (mLen 33) = true ∧ (iI ((306 : Nat) : Int) + 1).toNatClampNeg = 307 := ix 1 (by omega)
  have t2 : mIn (iI ((306 : Nat) : Int) + 2) (mLen 33) = true ∧ (iI ((306 : Nat) : Int) + 2).toNatClampNeg = 308 := ix 2 (by omega)
  have t3 : mIn (iI ((306 : Nat) : Int) + 3) (mLen 33) = true ∧ (iI ((306 : Nat) : Int) + 3).toNatClampNeg = 309 := ix 3 (by omega)
  have t4 : mIn (iI ((306 : Nat) : Int) + 4) (mLen 33) = true ∧ (iI ((306 : Nat) : Int) + 4).toNatClampNeg = 310 := ix 4 (by omega)
  have t5 : mIn (iI ((306 : Nat) : Int) + 5) (mLen 33) = true ∧ (iI ((306 : Nat) : Int) + 5).toNatClampNeg = 311 := ix 5 (by omega)
  have t6 : mIn (iI ((306 : Nat) : Int) + 6) (mLen 33) = true ∧ (iI ((306 : Nat) : Int) + 6).toNatClampNeg = 312 := ix 6 (by omega)
  obtain ⟨r', hr'⟩ : ∃ r' : Nat → Int32, r' = upd (upd (upd (upd (upd (upd (upd r3 306 (σ.1 22)) 307 (σ.1 23)) 308 (σ.1 24)) 309 (σ.1 25)) 310 (σ.1 26)) 311 (σ.1 27)) 312 (σ.1 28) := ⟨_, rfl⟩
  have lo : ∀ p, p < 306 → r' p = r3 p := fun p hp => by
    rw [hr', upd_n (by omega), upd_n (by omega), upd_n (by omega), upd_n (by omega), upd_n (by omega), upd_n (by omega), upd_n (by omega)]
  refine ⟨r', ?_, fun i hi => ?_, fun i hi => ?_, fun i hi => ?_, fun i hi => ?_⟩
  · unfold f_store
    rw [a3, f_store_4, if_pos (show (64 : Int32) ≤ iI ((64 : Nat) : Int) by decide)]
    rw [b3, f_store_66, if_pos (show (8 : Int32) ≤ iI ((8 : Nat) : Int) by decide)]
    rw [c3, f_store_128, if_pos (show (6 : Int32) ≤ iI ((6 : Nat) : Int) by decide), if_pos rfl, if_pos t0.1, p_let, t0.2, mRow_a, if_pos t1.1, p_let, t1.2, mRow_a, if_pos t2.1, p_let, t2.2, mRow_a, if_pos t3.1, p_let, t3.2, mRow_a, if_pos t4.1, p_let, t4.2, mRow_a, if_pos t5.1, p_let, t5.2, mRow_a, if_pos t6.1, p_let, t6.2, mRow_a, hr']
    rfl
  · obtain ⟨e0, e1, e2, e3⟩ := a2 i (by omega) hi
    rw [lo _ (by omega), lo _ (by omega), lo _ (by omega), lo _ (by omega), c1 _ (by omega), c1 _ (by omega), c1 _ (by omega), c1 _ (by omega), b1 _ (by omega), b1 _ (by omega), b1 _ (by omega), b1 _ (by omega)]
    exact ⟨e0, e1, e2, e3⟩
  · obtain ⟨e0, e1, e2, e3⟩ := b2 i (by omega) hi
    rw [lo _ (by omega), lo _ (by omega), lo _ (by omega), lo _ (by omega), c1 _ (by omega), c1 _ (by omega), c1 _ (by omega), c1 _ (by omega)]
    exact ⟨e0, e1, e2, e3⟩
  · obtain ⟨e0, e1, e2⟩ := c2 i (by omega) hi
    rw [lo _ (by omega), lo _ (by omega), lo _ (by omega)]
    exact ⟨e0, e1, e2⟩
  · rw [hr']
    match i, hi with
    | 0, _ => rw [upd_n (by decide), upd_n (by decide), upd_n (by decide), upd_n (by decide), upd_n (by decide), upd_n (by decide), upd_s]
    | 1, _ => rw [upd_n (by decide), upd_n (by decide), upd_n (by decide), upd_n (by decide), upd_n (by decide), upd_s]
    | 2, _ => rw [upd_n (by decide), upd_n (by decide), upd_n (by decide), upd_n (by decide), upd_s]
    | 3, _ => rw [upd_n (by decide), upd_n (by decide), upd_n (by decide), upd_s]
    | 4, _ => rw [upd_n (by decide), upd_n (by decide), upd_s]
    | 5, _ => rw [upd_n (by decide), upd_s]
    | 6, _ => rw [upd_s]
theorem m_rest {N : Nat} {σ : MS} (hN : 2000 ≤ N) : ∃ σ' : MS, f_store N σ 1 = some σ' ∧ (∀ k, k < 22 ∨ 28 < k → σ'.1 k = σ.1 k) ∧ (∀ i, i < 7 → σ'.1 (22 + i) = σ.2.1 33 (306 + i)) ∧ σ'.2.2 = σ.2.2 ∧ (∀ j, ¬ ((14 ≤ j ∧ j ≤ 21) ∨ (30 ≤ j ∧ j ≤ 32)) → σ'.2.1 j = σ.2.1 j) ∧ (∀ i, i < 64 → σ'.2.1 14 i = σ.2.1 33 (0 + 4 * i + 0) ∧ σ'.2.1 16 i = σ.2.1 33 (0 + 4 * i + 1) ∧ σ'.2.1 20 i = σ.2.1 33 (0 + 4 * i + 2) ∧ σ'.2.1 21 i = σ.2.1 33 (0 + 4 * i + 3)) ∧ (∀ i, i < 8 → σ'.2.1 15 i = σ.2.1 33 (256 + 4 * i + 0) ∧ σ'.2.1 17 i = σ.2.1 33 (256 + 4 * i + 1) ∧ σ'.2.1 18 i = σ.2.1 33 (256 + 4 * i + 2) ∧ σ'.2.1 19 i = σ.2.1 33 (256 + 4 * i + 3)) ∧ (∀ i, i < 6 → σ'.2.1 30 i = σ.2.1 33 (288 + 3 * i + 0) ∧ σ'.2.1 31 i = σ.2.1 33 (288 + 3 * i + 1) ∧ σ'.2.1 32 i = σ.2.1 33 (288 + 3 * i + 2)) ∧ ∀ j, ((14 ≤ j ∧ j ≤ 21) ∨ (30 ≤ j ∧ j ≤ 32)) → ∀ i, mLen j ≤ i → σ'.2.1 j i = σ.2.1 j i := by
  obtain ⟨s1, a1, a2, a3, a4, a5⟩ := m_rsa (N := N) 64 0 (N - 64) σ (by omega)
  obtain ⟨s2, b1, b2, b3, b4, b5⟩ := m_rsb (N := N) 8 0 (N - 8) s1 (by omega)
  obtain ⟨s3, c1, c2, c3, c4, c5⟩ := m_rsc (N := N) 6 0 (N - 6) s2 (by omega)
  rw [Nat.sub_add_cancel (by omega)] at a5 b5 c5
  obtain ⟨q1, h1⟩ : ∃ q, N - 64 = q + 1 := ⟨N - 64 - 1, by omega⟩
  obtain ⟨q2, h2⟩ : ∃ q, N - 8 = q + 1 := ⟨N - 8 - 1, by omega⟩
  obtain ⟨q3, h3⟩ : ∃ q, N - 6 = q + 1 := ⟨N - 6 - 1, by omega⟩
  rw [h1] at a5
  rw [h2] at b5
  rw [h3] at c5
  have a5 : f_store_4 N N σ 1 0 0 = _ := a5
  have b5 : f_store_66 N N s1 1 (iI ((256 : Nat) : Int)) 0 = _ := b5
  have c5 : f_store_128 N N s2 1 (iI ((288 : Nat) : Int)) 0 = _ := c5
  have ix : ∀ i : Nat, i < 7 → mIn (iI ((306 : Nat) : Int) + iI (i : Int)) (mLen 33) = true ∧ (iI ((306 : Nat) : Int) + iI (i : Int)).toNatClampNeg = 306 + i := fun i hi => by
    rw [i_add]
    exact t_ix (k := 306 + i) rfl (by rw [show mLen 33 = 400 from rfl]; omega) (by rw [show mLen 33 = 400 from rfl]; omega)
  have t0 : mIn (iI ((306 : Nat) : Int)) (mLen 33) = true ∧ (iI ((306 : Nat) : Int)).toNatClampNeg = 306 := t_ix (k := 306) rfl (by rw [show mLen 33 = 400 from rfl]; omega) (by rw [show mLen 33 = 400 from rfl]; omega)
  have t1 : mIn (iI ((306 : Nat) : Int) + 1) (mLen 33) = true ∧ (iI ((306 : Nat) : Int) + 1).toNatClampNeg = 307 := ix 1 (by omega)
  have t2 : mIn (iI ((306 : Nat) : Int) + 2) (mLen 33) = true ∧ (iI ((306 : Nat) : Int) + 2).toNatClampNeg = 308 := ix 2 (by omega)
  have t3 : mIn (iI ((306 : Nat) : Int) + 3) (mLen 33) = true ∧ (iI ((306 : Nat) : Int) + 3).toNatClampNeg = 309 := ix 3 (by omega)
  have t4 : mIn (iI ((306 : Nat) : Int) + 4) (mLen 33) = true ∧ (iI ((306 : Nat) : Int) + 4).toNatClampNeg = 310 := ix 4 (by omega)
  have t5 : mIn (iI ((306 : Nat) : Int) + 5) (mLen 33) = true ∧ (iI ((306 : Nat) : Int) + 5).toNatClampNeg = 311 := ix 5 (by omega)
  have t6 : mIn (iI ((306 : Nat) : Int) + 6) (mLen 33) = true ∧ (iI ((306 : Nat) : Int) + 6).toNatClampNeg = 312 := ix 6 (by omega)
  have r33 : s3.2.1 33 = σ.2.1 33 := by
    rw [c3 33 (by decide) (by decide) (by decide), b3 33 (by decide) (by decide) (by decide) (by decide), a3 33 (by decide) (by decide) (by decide) (by decide)]
  have r33b : s1.2.1 33 = σ.2.1 33 := a3 33 (by decide) (by decide) (by decide) (by decide)
  have r33c : s2.2.1 33 = σ.2.1 33 := (b3 33 (by decide) (by decide) (by decide) (by decide)).trans r33b
  refine ⟨mSet (mSet (mSet (mSet (mSet (mSet (mSet s3 22 (σ.2.1 33 306)) 23 (σ.2.1 33 307)) 24 (σ.2.1 33 308)) 25 (σ.2.1 33 309)) 26 (σ.2.1 33 310)) 27 (σ.2.1 33 311)) 28 (σ.2.1 33 312), ?_, fun k hk => ?_, fun i hi => ?_, c2.trans (b2.trans a2), fun j hj => ?_, fun i hi => ?_, fun i hi => ?_, fun i hi => ?_, fun j hj i hi => ?_⟩
  · unfold f_store
    rw [a5, f_store_4, if_pos (show (64 : Int32) ≤ iI ((64 : Nat) : Int) by decide)]
    rw [b5, f_store_66, if_pos (show (8 : Int32) ≤ iI ((8 : Nat) : Int) by decide)]
    rw [c5, f_store_128, if_pos (show (6 : Int32) ≤ iI ((6 : Nat) : Int) by decide), if_neg n10, if_pos t0.1, p_let, t0.2, p_let, if_pos t1.1, p_let, t1.2, p_let, if_pos t2.1, p_let, t2.2, p_let, if_pos t3.1, p_let, t3.2, p_let, if_pos t4.1, p_let, t4.2, p_let, if_pos t5.1, p_let, t5.2, p_let, if_pos t6.1, p_let, t6.2, p_let]
    unfold f_store_349
    rw [← r33]
    rfl
  · show upd (upd (upd (upd (upd (upd (upd s3.1 22 _) 23 _) 24 _) 25 _) 26 _) 27 _) 28 _ k = _
    rw [upd_n (by omega), upd_n (by omega), upd_n (by omega), upd_n (by omega), upd_n (by omega), upd_n (by omega), upd_n (by omega), c1, b1, a1]
  · match i, hi with
    | 0, _ => rfl
    | 1, _ => rfl
    | 2, _ => rfl
    | 3, _ => rfl
    | 4, _ => rfl
    | 5, _ => rfl
    | 6, _ => rfl
  · show s3.2.1 j = σ.2.1 j
    rw [c3 j (by omega) (by omega) (by omega), b3 j (by omega) (by omega) (by omega) (by omega), a3 j (by omega) (by omega) (by omega) (by omega)]
  · show s3.2.1 14 i = _ ∧ s3.2.1 16 i = _ ∧ s3.2.1 20 i = _ ∧ s3.2.1 21 i = _
    rw [c3 14 (by decide) (by decide) (by decide), c3 16 (by decide) (by decide) (by decide), c3 20 (by decide) (by decide) (by decide), c3 21 (by decide) (by decide) (by decide), b3 14 (by decide) (by decide) (by decide) (by decide), b3 16 (by decide) (by decide) (by decide) (by decide), b3 20 (by decide) (by decide) (by decide) (by decide), b3 21 (by decide) (by decide) (by decide) (by decide)]
    exact (a4 i).1 (by omega) hi
  · show s3.2.1 15 i = _ ∧ s3.2.1 17 i = _ ∧ s3.2.1 18 i = _ ∧ s3.2.1 19 i = _
    rw [c3 15 (by decide) (by decide) (by decide), c3 17 (by decide) (by decide) (by decide), c3 18 (by decide) (by decide) (by decide), c3 19 (by decide) (by decide) (by decide), ← r33b]
    exact (b4 i).1 (by omega) hi
  · show s3.2.1 30 i = _ ∧ s3.2.1 31 i = _ ∧ s3.2.1 32 i = _
    rw [← r33c]
    exact (c4 i).1 (by omega) hi
  · show s3.2.1 j i = σ.2.1 j i
    have ca : ∀ {j : Nat}, j = 14 ∨ j = 16 ∨ j = 20 ∨ j = 21 → mLen j = 64 := fun h => by rcases h with rfl | rfl | rfl | rfl <;> rfl
    have cb : ∀ {j : Nat}, j = 15 ∨ j = 17 ∨ j = 18 ∨ j = 19 → mLen j = 8 := fun h => by rcases h with rfl | rfl | rfl | rfl <;> rfl
    have cc : ∀ {j : Nat}, j = 30 ∨ j = 31 ∨ j = 32 → mLen j = 6 := fun h => by rcases h with rfl | rfl | rfl <;> rfl
    by_cases h1 : j = 14 ∨ j = 16 ∨ j = 20 ∨ j = 21
    · rw [ca h1] at hi
      obtain ⟨e0, e1, e2, e3⟩ := (a4 i).2 (Or.inr hi)
      rw [c3 j (by omega) (by omega) (by omega), b3 j (by omega) (by omega) (by omega) (by omega)]
      rcases h1 with rfl | rfl | rfl | rfl
      · exact e0
      · exact e1
      · exact e2
      · exact e3
    · by_cases h2 : j = 15 ∨ j = 17 ∨ j = 18 ∨ j = 19
      · rw [cb h2] at hi
        obtain ⟨e0, e1, e2, e3⟩ := (b4 i).2 (Or.inr hi)
        rw [c3 j (by omega) (by omega) (by omega)]
        rcases h2 with rfl | rfl | rfl | rfl
        · rw [e0, a3 15 (by decide) (by decide) (by decide) (by decide)]
        · rw [e1, a3 17 (by decide) (by decide) (by decide) (by decide)]
        · rw [e2, a3 18 (by decide) (by decide) (by decide) (by decide)]
        · rw [e3, a3 19 (by decide) (by decide) (by decide) (by decide)]
      · have h3 : j = 30 ∨ j = 31 ∨ j = 32 := by omega
        rw [cc h3] at hi
        obtain ⟨e0, e1, e2⟩ := (c4 i).2 (Or.inr hi)
        rcases h3 with rfl | rfl | rfl
        · rw [e0, b3 30 (by decide) (by decide) (by decide) (by decide), a3 30 (by decide) (by decide) (by decide) (by decide)]
        · rw [e1, b3 31 (by decide) (by decide) (by decide) (by decide), a3 31 (by decide) (by decide) (by decide) (by decide)]
        · rw [e2, b3 32 (by decide) (by decide) (by decide) (by decide), a3 32 (by decide) (by decide) (by decide) (by decide)]
