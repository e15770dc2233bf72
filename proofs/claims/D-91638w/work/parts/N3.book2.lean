/-! PLAIN: the call book: what is left behind -/
/-- σ but for what a text leaves -/
def mOv (σ τ : MS) : MS := (fun k => if k = 0 then τ.1 0 else if k = 2 then τ.1 2 else if k = 3 then τ.1 3 else if k = 4 then τ.1 4 else if k = 5 then τ.1 5 else if k = 6 then τ.1 6 else if k = 7 then τ.1 7 else if k = 8 then τ.1 8 else if k = 9 then τ.1 9 else if k = 10 then τ.1 10 else if k = 13 then τ.1 13 else if k = 29 then τ.1 29 else if k = 39 then τ.1 39 else σ.1 k, fun j => if j = 11 then τ.2.1 11 else if j = 33 then τ.2.1 33 else σ.2.1 j, σ.2.2)
def oK (k : Nat) : Prop := k = 0 ∨ (2 ≤ k ∧ k ≤ 10) ∨ k = 13 ∨ k = 29 ∨ k = 39
theorem mOv_eq {σ τ : MS} (hf : ∀ k, ¬ oK k → τ.1 k = σ.1 k) (hr : ∀ j, j ≠ 11 → j ≠ 33 → τ.2.1 j = σ.2.1 j) (h2 : τ.2.2 = σ.2.2) : mOv σ τ = τ := by
  refine Prod.ext (funext fun k => ?_) (Prod.ext (funext fun j => ?_) h2.symm)
  · show (if k = 0 then τ.1 0 else if k = 2 then τ.1 2 else if k = 3 then τ.1 3 else if k = 4 then τ.1 4 else if k = 5 then τ.1 5 else if k = 6 then τ.1 6 else if k = 7 then τ.1 7 else if k = 8 then τ.1 8 else if k = 9 then τ.1 9 else if k = 10 then τ.1 10 else if k = 13 then τ.1 13 else if k = 29 then τ.1 29 else if k = 39 then τ.1 39 else σ.1 k) = τ.1 k
    by_cases c0 : k = 0
    · rw [if_pos c0, c0]
    rw [if_neg c0]
    by_cases c2 : k = 2
    · rw [if_pos c2, c2]
    rw [if_neg c2]
    by_cases c3 : k = 3
    · rw [if_pos c3, c3]
    rw [if_neg c3]
    by_cases c4 : k = 4
    · rw [if_pos c4, c4]
    rw [if_neg c4]
    by_cases c5 : k = 5
    · rw [if_pos c5, c5]
    rw [if_neg c5]
    by_cases c6 : k = 6
    · rw [if_pos c6, c6]
    rw [if_neg c6]
    by_cases c7 : k = 7
    · rw [if_pos c7, c7]
    rw [if_neg c7]
    by_cases c8 : k = 8
    · rw [if_pos c8, c8]
    rw [if_neg c8]
    by_cases c9 : k = 9
    · rw [if_pos c9, c9]
    rw [if_neg c9]
    by_cases c10 : k = 10
    · rw [if_pos c10, c10]
    rw [if_neg c10]
    by_cases c13 : k = 13
    · rw [if_pos c13, c13]
    rw [if_neg c13]
    by_cases c29 : k = 29
    · rw [if_pos c29, c29]
    rw [if_neg c29]
    by_cases c39 : k = 39
    · rw [if_pos c39, c39]
    rw [if_neg c39]
    exact (hf k (fun z => by unfold oK at z; omega)).symm
  · show (if j = 11 then τ.2.1 11 else if j = 33 then τ.2.1 33 else σ.2.1 j) = τ.2.1 j
    by_cases c0 : j = 11
    · rw [if_pos c0, c0]
    rw [if_neg c0]
    by_cases c2 : j = 33
    · rw [if_pos c2, c2]
    rw [if_neg c2]
    exact (hr j c0 c2).symm
theorem m_b195 {N : Nat} {σ : MS} : ∀ (d k q : Nat) (r : Nat → Int32), k + d = 6 → (∀ j, j < k → r j = 0) → ∃ r' : Nat → Int32, (∀ j, j < 6 → r' j = 0) ∧ f_book_195 N (q + d + 1) (mRow σ 47 r) (iI k) = some (σ.1 22, mRow σ 47 r') := by
  intro d
  induction d with
  | zero =>
    intro k q r hk hr
    refine ⟨r, fun j hj => hr j (by omega), ?_⟩
    rw [Nat.add_zero, f_book_195, show (6 : Int32) = iI 6 from rfl, p_le (by omega) (by omega) (by omega) (by omega) (by omega), p_let]
    rfl
  | succ d ih =>
    intro k q r hk hr
    have ek : iI (k : Int) + 1 = iI ((k + 1 : Nat) : Int) := by
      rw [j1, i_add]
      rfl
    obtain ⟨t1, t2⟩ := t_ix (a := (k : Int)) (n := mLen 47) (k := k) rfl (by rw [show mLen 47 = 6 from rfl]; omega) (by rw [show mLen 47 = 6 from rfl]; omega)
    obtain ⟨r', w1, w2⟩ := ih (k + 1) q (upd r k 0) (by omega) (fun j hj => by
      by_cases c : j = k
      · rw [c, upd_s]
      · rw [upd_n c]
        exact hr j (by omega))
    refine ⟨r', w1, ?_⟩
    rw [show q + (d + 1) + 1 = (q + d + 1) + 1 by omega, f_book_195, show (6 : Int32) = iI 6 from rfl, n_le (by omega) (by omega) (by omega) (by omega) (by omega), if_pos t1, p_let, t2, mRow_a, ek, p_let]
    exact w2
theorem x_fail {N b : Nat} {g : uEnv} {u : UH} {ad : Nat → Nat} {σ τ : MS} {bk mp pt : Value} {x : Nat} {k p : Int32} (hx : u.2.2 (ad 0) = some (xO ad σ bk mp pt)) (hv : vEx u x k p) (hb : b ≤ ad 0) (h39 : τ.1 39 = 4) (h9 : τ.1 9 = k) (h10 : τ.1 10 = p) (hs : τ.1 38 = σ.1 38 ∧ τ.1 2 = σ.1 2 ∧ τ.1 63 = σ.1 63 ∧ τ.1 64 = σ.1 64 ∧ τ.1 65 = σ.1 65) : f_X1_failed N b g u (ad 0) (some x) = some (-1, uSet u (ad 0) (xO ad τ bk mp pt)) := by
  obtain ⟨fs, e1, e2, e3⟩ := hv
  obtain ⟨s1, s2, s3, s4, s5⟩ := hs
  have nx : x ≠ ad 0 := u_nrr e1 hx (by decide)
  have pw : uPut b u (ad 0) 0 6 (.int k) = some (uSet u (ad 0) (.inr (0, [.int (σ.1 39), .int (if σ.1 39 = 4 then σ.1 10 else -1), bk, .int (σ.1 38), .ref (ad 1), .int (σ.1 2), .int k, mp, .ref (ad 2), .ref (ad 3), .ref (ad 4), .int (σ.1 63), .int (σ.1 64), .int (σ.1 65), .ref (ad 5), pt]))) := u_pw hx hb (Nat.le_of_ble_eq_true rfl)
  have pw2 : uPut b (uSet u (ad 0) (.inr (0, [.int (σ.1 39), .int (if σ.1 39 = 4 then σ.1 10 else -1), bk, .int (σ.1 38), .ref (ad 1), .int (σ.1 2), .int k, mp, .ref (ad 2), .ref (ad 3), .ref (ad 4), .int (σ.1 63), .int (σ.1 64), .int (σ.1 65), .ref (ad 5), pt]))) (ad 0) 0 0 (.int 4) = some (uSet u (ad 0) (.inr (0, [.int 4, .int (if σ.1 39 = 4 then σ.1 10 else -1), bk, .int (σ.1 38), .ref (ad 1), .int (σ.1 2), .int k, mp, .ref (ad 2), .ref (ad 3), .ref (ad 4), .int (σ.1 63), .int (σ.1 64), .int (σ.1 65), .ref (ad 5), pt]))) := by
    rw [u_pw u_ss hb (Nat.le_of_ble_eq_true rfl), u_s2]
    rfl
  have e1' : (uSet u (ad 0) (.inr (0, [.int 4, .int (if σ.1 39 = 4 then σ.1 10 else -1), bk, .int (σ.1 38), .ref (ad 1), .int (σ.1 2), .int k, mp, .ref (ad 2), .ref (ad 3), .ref (ad 4), .int (σ.1 63), .int (σ.1 64), .int (σ.1 65), .ref (ad 5), pt]))).2.2 x = some (.inr (6, fs)) := (u_sn nx).trans e1
  unfold f_X1_failed
  rw [p_bs, v_gi e1 (k := 6) e2, p_bs, pw, p_bs, pw2, p_bs, v_gi e1' (k := 7) e3, p_bs, u_pw u_ss hb (Nat.le_of_ble_eq_true rfl), p_bs, u_s2]
  congr 2
  unfold xO
  rw [h39, if_pos rfl, h9, h10, s1, s2, s3, s4, s5]
  rfl
theorem rTp_of {f : Nat → Int32} (h : ∀ k, k < 500 → vp_nar .byte (f k) = f k) : ∃ T : Nat → Nat, ∀ k, k < 500 → T k < 256 ∧ f k &&& 255 = iI (T k) ∧ (T k < 128 → f k = iI (T k)) := by
  refine ⟨fun k => if hk : k < 500 then (t_b8 (h k hk)).choose else 0, fun k hk => ?_⟩
  show (if hk : k < 500 then (t_b8 (h k hk)).choose else 0) < 256 ∧ f k &&& 255 = iI ((if hk : k < 500 then (t_b8 (h k hk)).choose else 0 : Nat) : Int) ∧ ((if hk : k < 500 then (t_b8 (h k hk)).choose else 0) < 128 → f k = iI ((if hk : k < 500 then (t_b8 (h k hk)).choose else 0 : Nat) : Int))
  rw [dif_pos hk]
  exact (t_b8 (h k hk)).choose_spec
