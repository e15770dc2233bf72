/-! PLAIN: Arrays.fill of booleans with false -/
theorem c_fillG {N b : Nat} {g : uEnv} {u : UH} {a len : Nat} (hb : b ≤ a) (hl : len ≤ 100000) : ∀ (m i : Nat) (f : Nat → Int32), i ≤ len → len < i + m → ∃ f' : Nat → Int32, f_J10_fill_2_5 N b g m (uSet u a (.inl (2, len, .inl f))) (some a) 0 (iI i) (iI len) = some (uSet u a (.inl (2, len, .inl f'))) ∧ (∀ j, i ≤ j → j < len → f' j = 0) ∧ ∀ j, j < i → f' j = f j := by
  intro m
  induction m with
  | zero => intro i f h1 h2; omega
  | succ m ih =>
    intro i f h1 h2
    rw [f_J10_fill_2_5]
    by_cases hi : len ≤ i
    · refine ⟨f, ?_, fun j d1 d2 => by omega, fun j _ => rfl⟩
      rw [p_le (by omega) (by omega) (by omega) (by omega) (by omega)]
    · have ei : iI (i : Int) + 1 = iI ((i + 1 : Nat) : Int) := by
        rw [j1, i_add]
        rfl
      obtain ⟨f', a1, a2, a3⟩ := ih (i + 1) (upd f i 0) (by omega) (by omega)
      refine ⟨f', ?_, fun j d1 d2 => ?_, fun j d1 => ?_⟩
      · rw [n_le (by omega) (by omega) (by omega) (by omega) (by omega), p_bs, show vp_nar .boolean 0 = 0 from rfl, u_stI (i := (i : Int)) u_ss hb (by omega) (by omega) (by omega), p_bs, u_s2, p_let, ei]
        exact a1
      · by_cases x : j = i
        · rw [x, a3 i (by omega)]
          exact if_pos rfl
        · exact a2 j (by omega) d2
      · rw [a3 j (by omega)]
        exact if_neg (by omega)
theorem c_fill {N b : Nat} {g : uEnv} {u : UH} {a len : Nat} {f : Nat → Int32} (h : u.2.2 a = some (.inl (2, len, .inl f))) (hb : b ≤ a) (hl : len ≤ 100000) (hN : len < N) : ∃ f' : Nat → Int32, f_J10_fill_2 N b g u (some a) 0 = some (uSet u a (.inl (2, len, .inl f'))) ∧ ∀ j, j < len → f' j = 0 := by
  obtain ⟨f', a1, a2, -⟩ := c_fillG (N := N) (g := g) (u := u) hb hl N 0 f (by omega) (by omega)
  rw [u_se h] at a1
  refine ⟨f', ?_, fun j hj => a2 j (by omega) hj⟩
  unfold f_J10_fill_2
  rw [p_bs, u_len h, p_bs]
  exact a1
