/-! PLAIN: lists: a thing is added -/
/-- all that is known lies below the heap's end -/
def uOld (u : UH) : Prop := ∀ x e, u.2.2 x = some e → x < u.1
theorem uOld.set {u : UH} {a : Nat} {e e0 : uE} (h : uOld u) (ha : u.2.2 a = some e0) : uOld (uSet u a e) := fun x e' hx => by
  by_cases c : x = a
  · rw [c]
    exact h a e0 ha
  · rw [u_sn c] at hx
    exact h x e' hx
theorem u_nn {u : UH} {k : Nat} {e : uE} : (uNew u k e).2.2 u.1 = some e := if_pos rfl
theorem u_nx {u : UH} {k x : Nat} {e : uE} (h : x ≠ u.1) : (uNew u k e).2.2 x = u.2.2 x := if_neg h
theorem u_no {u : UH} {k x : Nat} {e e' : uE} (h : uOld u) (hx : u.2.2 x = some e') : (uNew u k e).2.2 x = some e' := (u_nx (Nat.ne_of_lt (h x e' hx))).trans hx
theorem uOld.new {u : UH} {k : Nat} {e : uE} (h : uOld u) : uOld (uNew u k e) := fun x e' hx => by
  show x < u.1 + 1
  by_cases c : x = u.1
  · omega
  · rw [u_nx c] at hx
    have := h x e' hx
    omega
theorem t_halF : ∀ m : Fin 2048, (iI (m.1 : Int)) >>> ((1 : Int32) &&& 31) = iI ((m.1 / 2 : Nat) : Int) := by decide +kernel
theorem j_max {N b : Nat} {g : uEnv} {u : UH} {x y : Int} (h1 : -2147483648 ≤ x) (h2 : x ≤ 2147483647) (h3 : -2147483648 ≤ y) (h4 : y ≤ 2147483647) : f_J9_max N b g u (iI x) (iI y) = some (iI (if x < y then y else x), u) := by
  unfold f_J9_max f_J9_max_10
  by_cases h : x < y
  · rw [p_lt (by omega) (by omega) (by omega) (by omega) (by omega), if_pos h]
  · rw [n_lt (by omega) (by omega) (by omega) (by omega) (by omega), if_neg h]
theorem j_min {N b : Nat} {g : uEnv} {u : UH} {x y : Int} (h1 : -2147483648 ≤ x) (h2 : x ≤ 2147483647) (h3 : -2147483648 ≤ y) (h4 : y ≤ 2147483647) : f_J9_min N b g u (iI x) (iI y) = some (iI (if y < x then y else x), u) := by
  unfold f_J9_min f_J9_min_10
  by_cases h : y < x
  · rw [p_lt (by omega) (by omega) (by omega) (by omega) (by omega), if_pos h]
  · rw [n_lt (by omega) (by omega) (by omega) (by omega) (by omega), if_neg h]
/-- how long the next array of a list is -/
def lGr (m : Nat) : Nat := if m = 0 then 10 else m + (if m / 2 = 0 then 1 else m / 2)
def lNo : uVs := .inr (.inr (.inr (.inr (fun _ => none))))
theorem u_isA {u : UH} {a t m : Nat} {z : uVs} (h : u.2.2 a = some (.inl (t, m, z))) : uIsA u a t = true := by
  unfold uIsA
  rw [h]
  simp
theorem u_obj {u : UH} {a c : Nat} {fs : List Value} (h : u.2.2 a = some (.inr (c, fs))) : uObj u a = true := by
  unfold uObj
  rw [h]
theorem u_cpR {b : Nat} {u : UH} {a0 a n n1 : Nat} {f g : Nat → Option Nat} (h0 : u.2.2 a0 = some (.inl (4, n, .inr (.inr (.inr (.inr f)))))) (h1 : u.2.2 a = some (.inl (4, n1, .inr (.inr (.inr (.inr g)))))) (hb : b ≤ a) (hn : n ≤ n1) (h2 : n ≤ 2147483647) (hf : ∀ i, i < n → ucase (f i) true (uObj u) = true) : uCpR b u a0 0 a 0 (iI n) = some (uSet u a (.inl (4, n1, .inr (.inr (.inr (.inr (va_cpy f g 0 0 n))))))) := by
  have z0 : (0 : Int32).toNatClampNeg = 0 := rfl
  have zn : (iI (n : Int)).toNatClampNeg = n := by
    rw [j_nat (by omega) (by omega)]
    rfl
  unfold uCpR
  rw [h0, h1]
  show (if 4 = 4 ∧ 4 = 4 ∧ b ≤ a ∧ ¬ (0 : Int32) < 0 ∧ ¬ (0 : Int32) < 0 ∧ ¬ iI (n : Int) < 0 ∧ (0 : Int32).toNatClampNeg + (iI (n : Int)).toNatClampNeg ≤ n ∧ (0 : Int32).toNatClampNeg + (iI (n : Int)).toNatClampNeg ≤ n1 ∧ (List.range (iI (n : Int)).toNatClampNeg).all (fun i => ucase (f ((0 : Int32).toNatClampNeg + i)) true (uObj u)) = true then some (uSet u a (.inl (4, n1, .inr (.inr (.inr (.inr (va_cpy f g (0 : Int32).toNatClampNeg (0 : Int32).toNatClampNeg (iI (n : Int)).toNatClampNeg))))))) else none) = _
  rw [z0, zn]
  refine if_pos ⟨rfl, rfl, hb, by decide, by decide, ?_, by omega, by omega, ?_⟩
  · rw [j0, j_lt (by omega) (by omega) (by omega) (by omega)]
    omega
  · rw [List.all_eq_true]
    intro i hi
    rw [Nat.zero_add]
    exact hf i (List.mem_range.mp hi)
theorem l_grow {N b : Nat} {g : uEnv} {u : UH} {a arr n mi : Nat} {mc : Int32} {xs : Nat → Option Nat} (h : vLs u a arr n n mc xs) (ho : uOld u) (hb : b ≤ a) (hbu : b ≤ u.1) (h0 : n = 0 → g.1 10 = some arr) (hm : g.1 20 = some mi) (hx : ∀ i, i < n → ucase (xs i) true (uObj u) = true) (hn : n < 1300) : ∃ xs' : Nat → Option Nat, f_J2_grow N b g u a = some (some u.1, uSet (uNew u (lGr n) (.inl (4, lGr n, .inr (.inr (.inr (.inr xs')))))) a (.inr (18, [.int mc, .ref u.1, .int (iI n)]))) ∧ ∀ i, i < n → xs' i = xs i := by
  obtain ⟨e1, e2, e3, e4⟩ := h
  have en : iI (n : Int) + 1 = iI ((n + 1 : Nat) : Int) := by
    rw [j1, i_add]
    rfl
  unfold f_J2_grow f_J2_grow_10 f_J2_grow_2
  rw [v_gi e1 (k := 2) rfl, p_bs, if_pos (v_is e1), v_gr e1 (k := 1) rfl, p_bs, p_bs, u_len e2, p_bs, en]
  by_cases hz : n = 0
  · subst hz
    refine ⟨fun _ => none, ?_, fun i hi => by omega⟩
    rw [if_neg (show ¬ (0 : Int32) < iI ((0 : Nat) : Int) by decide), p_bs, p_let, h0 rfl, if_pos rfl, show (10 : Int32) = iI 10 from rfl, j_max (by omega) (by omega) (by omega) (by omega), q_uc, if_pos (show ¬ iI (if (10 : Int) < ((0 + 1 : Nat) : Int) then ((0 + 1 : Nat) : Int) else 10) < 0 ∧ (iI (if (10 : Int) < ((0 + 1 : Nat) : Int) then ((0 + 1 : Nat) : Int) else 10)).toNatClampNeg ≤ 60000000 by decide), p_let, p_let]
    unfold f_J2_grow_2_55
    rw [p_bs, u_pw (u_no ho e1) hb (Nat.le_of_ble_eq_true rfl), p_bs, q_uc]
    rfl
  · obtain ⟨d, hd⟩ : ∃ d, d = (if n / 2 = 0 then 1 else n / 2) := ⟨_, rfl⟩
    have gl : lGr n = n + d := by
      unfold lGr
      rw [if_neg hz, hd]
    have db : 1 ≤ d ∧ d ≤ n := by
      rw [hd]
      split <;> omega
    have nl : ∀ u : UH, f_J8_newLength N b g u (iI n) (iI ((n + 1 : Nat) : Int) - iI n) (iI n >>> (1 &&& 31)) = some (iI ((n + d : Nat) : Int), u) := fun u => by
      unfold f_J8_newLength
      rw [t_halF ⟨n, by omega⟩, i_sub, j_max (by omega) (by omega) (by omega) (by omega), q_uc, i_add, p_let]
      have ed : (n : Int) + (if ((n + 1 : Nat) : Int) - (n : Int) < ((n / 2 : Nat) : Int) then ((n / 2 : Nat) : Int) else ((n + 1 : Nat) : Int) - (n : Int)) = ((n + d : Nat) : Int) := by
        rw [hd]
        split <;> split <;> omega
      rw [ed, show (2147483639 : Int32) = iI 2147483639 from rfl, j0, n_le (by omega) (by omega) (by omega) (by omega) (by omega), n_lt (by omega) (by omega) (by omega) (by omega) (by omega)]
    rw [j0, p_lt (by omega) (by omega) (by omega) (by omega) (by omega)]
    unfold f_J2_grow_2_20 f_J10_copyOf_2 f_J10_copyOf_2_9 f_J10_copyOf_3 f_J10_copyOf_3_10 f_J10_copyOf_3_24 f_J2_grow_2_40
    have zn : (iI ((n + d : Nat) : Int)).toNatClampNeg = n + d := by
      rw [j_nat (by omega) (by omega)]
      rfl
    have cp := u_cpR (b := b) (u := uNew u (n + d) (.inl (4, n + d, .inr (.inr (.inr (.inr (fun _ => none))))))) (a0 := arr) (a := u.1) (n := n) (n1 := n + d) (f := xs) (g := fun _ => none) (u_no ho e2) u_nn hbu (by omega) (by omega) (fun i hi => by
      have q := hx i hi
      cases hv : xs i with
      | none => rfl
      | some v =>
        rw [hv] at q
        show uObj _ v = true
        have q' : uObj u v = true := q
        unfold uObj at q' ⊢
        cases hc : u.2.2 v with
        | none => rw [hc] at q'; cases q'
        | some e =>
          rw [u_no ho hc]
          rw [hc] at q'
          exact q')
    have la : uSet (uNew u (n + d) (.inl (4, n + d, .inr (.inr (.inr (.inr (fun _ => none))))))) u.1 (.inl (4, n + d, .inr (.inr (.inr (.inr (va_cpy xs (fun _ => none) 0 0 n)))))) = uNew u (n + d) (.inl (4, n + d, .inr (.inr (.inr (.inr (va_cpy xs (fun _ => none) 0 0 n)))))) := by
      refine Prod.ext rfl (Prod.ext rfl ?_)
      funext x
      by_cases hx : x = u.1
      · rw [hx, u_ss, u_nn]
      · rw [u_sn hx, u_nx hx, u_nx hx]
    refine ⟨va_cpy xs (fun _ => none) 0 0 n, ?_, fun i hi => ?_⟩
    · rw [nl, q_uc, v_gr e1 (k := 1) rfl, p_bs, p_bs, if_pos (u_isA e2), p_let, p_let, if_pos rfl, if_pos (show ¬ iI ((n + d : Nat) : Int) < 0 ∧ (iI ((n + d : Nat) : Int)).toNatClampNeg ≤ 60000000 by
        rw [zn, j0, j_lt (by omega) (by omega) (by omega) (by omega)]
        omega), p_let, p_let, zn, p_bs, u_len (u_no ho e2), p_bs, j_min (by omega) (by omega) (by omega) (by omega), if_neg (show ¬ ((n + d : Nat) : Int) < (n : Int) by omega), q_uc, p_bs, cp, p_bs, la, q_uc, q_uc, p_bs, u_pw (u_no ho e1) hb (Nat.le_of_ble_eq_true rfl), p_bs, q_uc, gl]
      rfl
    · unfold va_cpy
      rw [if_pos (by omega)]
      congr 1
      omega
