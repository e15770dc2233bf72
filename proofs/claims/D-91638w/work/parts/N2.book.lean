/-! PLAIN: a new book, a new reader -/
theorem u_df4 : uDefs tyX4 8 = [.null, .null, .int 0, .int 0, .int 0, .int 0, .int 0, .int 0] := by rfl
theorem u_df5 : uDefs tyX5 8 = [.null, .int 0, .int 0, .int 0, .int 0, .null, .null, .int 0] := by rfl
def bB0 (i : Nat) : Int := if i = 0 then 4 else if i = 4 then 0 else 100
section K2s
variable {N b : Nat} {g : uEnv} {U : UH}
theorem c_x4i {v : Nat} {f : Nat → Option Nat} (h10 : g.1 10 = some v) (hv : U.2.2 v = some (.inl (4, 0, .inr (.inr (.inr (.inr f)))))) (ho : uOld U) (hb : b ≤ U.1) : ∃ u', f_X4_init N b g (uNew U 8 (.inr (3, uDefs tyX4 8))) U.1 = some u' ∧ u'.2.2 U.1 = some (bOb (U.1 + 1) (U.1 + 2) 0 bB0) ∧ vLs u' (U.1 + 1) v 0 0 0 f ∧ vLs u' (U.1 + 2) v 0 0 0 f ∧ (∀ x, x < U.1 → u'.2.2 x = U.2.2 x) ∧ uOld u' ∧ u'.1 = U.1 + 3 ∧ u'.2.1 = U.2.1 + 14 := by
  have lv := ho _ _ hv
  obtain ⟨u1, d1, c1, k1, o1, s1, z1⟩ := w_new (u := U) (n := 8) (e := .inr (3, uDefs tyX4 8)) ho
  rw [u_df4] at c1
  obtain ⟨u2, e2, l2, k2, o2, s2, z2⟩ := l_new (N := N) (b := b) h10 ((k1 v lv).trans hv) o1 (by omega)
  obtain ⟨u3, d3, c3, k3, o3, s3, z3⟩ := w_put (b := b) (k := 0) (v := va_rf (some u1.1)) ((k2 U.1 (by omega)).trans c1) hb (Nat.le_of_ble_eq_true rfl) o2
  have hv3 : u3.2.2 v = some (.inl (4, 0, .inr (.inr (.inr (.inr f))))) := by
    rw [k3 v (by omega), k2 v (by omega), k1 v lv]
    exact hv
  obtain ⟨u4, e4, l4, k4, o4, s4, z4⟩ := l_new (N := N) (b := b) h10 hv3 o3 (by omega)
  obtain ⟨u5, d5, c5, k5, o5, s5, z5⟩ := w_put (b := b) (k := 1) (v := va_rf (some u3.1)) ((k4 U.1 (by omega)).trans c3) hb (Nat.le_of_ble_eq_true rfl) o4
  obtain ⟨u6, d6, c6, k6, o6, s6, z6⟩ := w_put (b := b) (k := 3) (v := .int 4) c5 hb (Nat.le_of_ble_eq_true rfl) o5
  obtain ⟨u7, d7, c7, k7, o7, s7, z7⟩ := w_put (b := b) (k := 4) (v := .int 100) c6 hb (Nat.le_of_ble_eq_true rfl) o6
  obtain ⟨u8, d8, c8, k8, o8, s8, z8⟩ := w_put (b := b) (k := 5) (v := .int 100) c7 hb (Nat.le_of_ble_eq_true rfl) o7
  obtain ⟨u9, d9, c9, k9, o9, s9, z9⟩ := w_put (b := b) (k := 6) (v := .int 100) c8 hb (Nat.le_of_ble_eq_true rfl) o8
  have e1 : u1.1 = U.1 + 1 := by omega
  have e3 : u3.1 = U.1 + 2 := by omega
  have up : ∀ x, x ≠ U.1 → u9.2.2 x = u4.2.2 x := fun x hx => by
    rw [k9 x hx, k8 x hx, k7 x hx, k6 x hx, k5 x hx]
  refine ⟨u9, ?_, ?_, ?_, ?_, fun x hx => ?_, o9, by omega, by omega⟩
  · unfold f_X4_init f_X4_init_8 f_X4_init_19
    rw [p_let, p_let, d1, p_bs, e2, p_bs, p_bs, d3, p_bs, p_let, p_let, p_bs, e4, p_bs, p_bs, d5, p_bs, d6, p_bs, d7, p_bs, d8, p_bs, d9, p_bs]
  · rw [c9, e1, e3]
    rfl
  · obtain ⟨y1, y2, y3⟩ := l2
    rw [e1] at y1
    refine ⟨?_, ?_, y3⟩
    · rw [up _ (by omega), k4 _ (by omega), k3 _ (by omega)]
      exact y1
    · rw [up _ (by omega), k4 _ (by omega), k3 _ (by omega)]
      exact y2
  · obtain ⟨y1, y2, y3⟩ := l4
    rw [e3] at y1
    refine ⟨?_, ?_, y3⟩
    · rw [up _ (by omega)]
      exact y1
    · rw [up _ (by omega)]
      exact y2
  · rw [up x (by omega), k4 x (by omega), k3 x (by omega), k2 x (by omega), k1 x hx]
theorem c_fillI5 {a len : Nat} {v : Int32} (hb : b ≤ a) (hl : len ≤ 100000) : ∀ (m i : Nat) (f : Nat → Int32), i ≤ len → len < i + m → ∃ f' : Nat → Int32, f_J10_fill_5 N b g m (uSet U a (.inl (0, len, .inl f))) (some a) v (iI i) (iI len) = some (uSet U a (.inl (0, len, .inl f'))) ∧ (∀ j, i ≤ j → j < len → f' j = v) ∧ ∀ j, j < i → f' j = f j := by
  intro m
  induction m with
  | zero => intro i f h1 h2; omega
  | succ m ih =>
    intro i f h1 h2
    rw [f_J10_fill_5]
    by_cases hi : len ≤ i
    · refine ⟨f, ?_, fun j d1 d2 => by omega, fun j _ => rfl⟩
      rw [p_le (by omega) (by omega) (by omega) (by omega) (by omega)]
    · have ei : iI (i : Int) + 1 = iI ((i + 1 : Nat) : Int) := by
        rw [j1, i_add]
        rfl
      obtain ⟨f', a1, a2, a3⟩ := ih (i + 1) (upd f i v) (by omega) (by omega)
      refine ⟨f', ?_, fun j d1 d2 => ?_, fun j d1 => ?_⟩
      · rw [n_le (by omega) (by omega) (by omega) (by omega) (by omega), p_bs, u_stI (i := (i : Int)) u_ss hb (by omega) (by omega) (by omega), p_bs, u_s2, p_let, ei]
        exact a1
      · by_cases x : j = i
        · rw [x, a3 i (by omega)]
          exact if_pos rfl
        · exact a2 j (by omega) d2
      · rw [a3 j (by omega)]
        exact if_neg (by omega)
theorem c_fillI {a len : Nat} {v : Int32} {f : Nat → Int32} (h : U.2.2 a = some (.inl (0, len, .inl f))) (hb : b ≤ a) (hl : len ≤ 100000) (hN : len < N) : ∃ f' : Nat → Int32, f_J10_fill N b g U (some a) v = some (uSet U a (.inl (0, len, .inl f'))) ∧ ∀ j, j < len → f' j = v := by
  obtain ⟨f', a1, a2, -⟩ := c_fillI5 (N := N) (b := b) (g := g) (U := U) (v := v) hb hl N 0 f (by omega) (by omega)
  rw [u_se h] at a1
  refine ⟨f', ?_, fun j hj => a2 j (by omega) hj⟩
  unfold f_J10_fill
  rw [p_bs, u_len h, p_bs]
  exact a1
/-- a reader is made and reads its first token -/
theorem c_rdn {σ σ0 : MS} {ad : Nat → Nat} {bk mp pt : Value} {n lo : Nat} {T : Nat → Nat} (hx : U.2.2 (ad 0) = some (xO ad σ bk mp pt)) (ba0 : b ≤ ad 0) (hT : rTp U σ0 (ad 1) T) (h3 : σ0.1 3 = iI n) (h5 : σ0.1 5 = 0) (h13 : σ0.1 13 = 0) (h9 : σ0.1 9 = 0) (hn : n ≤ 500) (hE : tEn b g U) (ho : uOld U) (hlo : b ≤ lo) (hl0 : ad 0 < lo) (hl1 : ad 1 < lo) (hlU : lo ≤ U.1) (hN : 2000 ≤ N) : ∃ (u' : UH) (σ1 : MS) (at1 : Nat), f_X1_reader N b g U (ad 0) (iI n) = some (some U.1, u') ∧ f_next N σ0 = some σ1 ∧ rCx b g lo U.1 (ad 1) n T u' σ1 at1 ∧ u'.2.2 (ad 0) = some (xO ad (mSet (mSet σ 2 0) 9 0) bk mp pt) ∧ (∀ x, x < U.1 → x ≠ ad 0 → u'.2.2 x = U.2.2 x) ∧ U.1 + 1 ≤ u'.1 ∧ u'.1 ≤ U.1 + 1 + 4 * at1 ∧ U.2.1 ≤ u'.2.1 ∧ u'.2.1 ≤ U.2.1 + 8 + 32 * at1 ∧ mSm tS tR σ0 σ1 := by
  obtain ⟨u1, d1, c1, k1, o1, s1, z1⟩ := w_put (b := b) (k := 5) (v := .int 0) hx ba0 (Nat.le_of_ble_eq_true rfl) ho
  obtain ⟨u2, d2, c2, k2, o2, s2, z2⟩ := w_put (b := b) (k := 6) (v := .int 0) c1 ba0 (Nat.le_of_ble_eq_true rfl) o1
  have c2' : u2.2.2 (ad 0) = some (xO ad (mSet (mSet σ 2 0) 9 0) bk mp pt) := c2
  obtain ⟨u3, d3, c3, k3, o3, s3, z3⟩ := w_new (u := u2) (n := 8) (e := .inr (4, uDefs tyX5 8)) o2
  rw [u_df5] at c3
  have l0 := ho _ _ hx
  have x3 : u3.2.2 (ad 0) = some (xO ad (mSet (mSet σ 2 0) 9 0) bk mp pt) := (k3 _ (by omega)).trans c2'
  obtain ⟨u4, d4, c4, k4, o4, s4, z4⟩ := w_put (b := b) (k := 0) (v := va_rf (some (ad 1))) c3 (by omega) (Nat.le_of_ble_eq_true rfl) o3
  obtain ⟨u5, d5, c5, k5, o5, s5, z5⟩ := w_put (b := b) (k := 1) (v := .int (iI n)) c4 (by omega) (Nat.le_of_ble_eq_true rfl) o4
  have e2 : u2.1 = U.1 := by omega
  rw [e2] at c5 k5 d5 k4 d4
  have c5' : u5.2.2 U.1 = some (rdC (ad 1) n 0 0 0 .null .null 0) := c5
  have up : ∀ x, x < U.1 → x ≠ ad 0 → u5.2.2 x = U.2.2 x := fun x x1 x2 => by
    rw [k5 x (by omega), k4 x (by omega), k3 x (by omega), k2 x x2, k1 x x2]
  have x5 : u5.2.2 (ad 0) = some (xO ad (mSet (mSet σ 2 0) 9 0) bk mp pt) := by
    rw [k5 _ (by omega), k4 _ (by omega)]
    exact x3
  obtain ⟨f, t1, t2⟩ := hT
  have ltp := ho _ _ t1
  have n01 : ad 1 ≠ ad 0 := u_nlr t1 hx
  have t5 : rTp u5 σ0 (ad 1) T := ⟨f, (up _ ltp n01).trans t1, t2⟩
  have hE5 : tEn b g u5 := hE.keep (fun x hx => up x (by omega) (by omega))
  obtain ⟨U', at2, a4, a5, a6, a7, a8, r, v1, v2, v3, v4, v5, v6, v7, v8, v9, v10⟩ := k_next (N := N) (lo := lo) c5' h5 (Nat.zero_le _) t5 h3 hn hE5 o5 hlo hlU (by omega) hN
  refine ⟨U', _, at2, ?_, v2, ⟨v3, ⟨f, (v4 _ (by omega) (by omega)).trans ((up _ ltp n01).trans t1), t2⟩, h3, hn, hE5.keep (fun x hx => v4 x (by omega) (by omega)), v5, hlo, hlU, by omega, h13, hl1, h9⟩, (v4 _ (by omega) (by omega)).trans x5, fun x x1 x2 => (v4 x (by omega) (by omega)).trans (up x x1 x2), by omega, by omega, by omega, by omega, mEk.tok.b⟩
  unfold f_X1_reader f_X1_reader_13 f_X1_reader_22 f_X5_init f_X5_init_18
  rw [d1, p_bs, d2, p_bs, p_let, p_let, e2, d3, v_gr x3 (k := 4) rfl, p_bs, p_bs, d4, p_bs, d5, p_bs, if_pos (v_is c5), v1, p_bs, p_bs]
end K2s
