/-! PLAIN: lists: add -/
theorem u_objS {u : UH} {a c v : Nat} {fs : List Value} (h : uObj u v = true) : uObj (uSet u a (.inr (c, fs))) v = true := by
  by_cases e : v = a
  · rw [e]
    exact u_obj u_ss
  · unfold uObj at h ⊢
    rw [u_sn e]
    exact h
theorem u_caS {u : UH} {a c : Nat} {fs : List Value} {o : Option Nat} (h : ucase o true (uObj u) = true) : ucase o true (uObj (uSet u a (.inr (c, fs)))) = true := by
  cases o with
  | none => rfl
  | some v => exact u_objS (show uObj u v = true from h)
theorem lGr_gt {m : Nat} : m < lGr m := by
  unfold lGr
  split
  · omega
  · split <;> omega
theorem l_add {N b : Nat} {g : uEnv} {u : UH} {a arr n m mi v : Nat} {mc : Int32} {xs : Nat → Option Nat} (h : vLs u a arr n m mc xs) (ho : uOld u) (hb : b ≤ a) (hbu : b ≤ u.1) (hba : n < m → b ≤ arr) (h0 : m = 0 → g.1 10 = some arr) (hm : g.1 20 = some mi) (hx : ∀ i, i < n → ucase (xs i) true (uObj u) = true) (hn : n < 1300) (hv : uObj u v = true) : ∃ (u' : UH) (arr' m' : Nat) (xs' : Nat → Option Nat), f_J2_add N b g u a (some v) = some (1, u') ∧ vLs u' a arr' (n + 1) m' (mc + 1) xs' ∧ (∀ i, i < n → xs' i = xs i) ∧ xs' n = some v ∧ (∀ x, x ≠ a → (n < m → x ≠ arr) → x < u.1 → u'.2.2 x = u.2.2 x) ∧ uOld u' ∧ b ≤ arr' ∧ ((n < m ∧ arr' = arr ∧ m' = m ∧ u'.1 = u.1 ∧ u'.2.1 = u.2.1) ∨ (n = m ∧ arr' = u.1 ∧ m' = lGr m ∧ u'.1 = u.1 + 1 ∧ u'.2.1 = u.2.1 + lGr m)) := by
  obtain ⟨e1, e2, e3, e4⟩ := h
  have na : arr ≠ a := u_nlr e2 e1
  have en : iI (n : Int) + 1 = iI ((n + 1 : Nat) : Int) := by
    rw [j1, i_add]
    rfl
  have f1 : ∀ fs, (uSet u a (.inr (18, fs))).2.2 a = some (.inr (18, fs)) := fun fs => u_ss
  have f2 : ∀ e, (uSet u a e).2.2 arr = some (.inl (4, m, .inr (.inr (.inr (.inr xs))))) := fun e => (u_sn na).trans e2
  have a1 : a < u.1 := ho a _ e1
  by_cases hnm : n < m
  · refine ⟨uSet (uSet (uSet u a (.inr (18, [.int (mc + 1), .ref arr, .int (iI n)]))) arr (.inl (4, m, .inr (.inr (.inr (.inr (va_up xs n (some v)))))))) a (.inr (18, [.int (mc + 1), .ref arr, .int (iI ((n + 1 : Nat) : Int))])), arr, m, va_up xs n (some v), ?_, ⟨u_ss, (u_sn na).trans u_ss, by omega, e4⟩, fun i hi => if_neg (by omega), if_pos rfl, fun x h1 h2 _ => ?_, ?_, hba hnm, Or.inl ⟨hnm, rfl, rfl, rfl, rfl⟩⟩
    · unfold f_J2_add f_J2_add_2 f_J2_add_2_11 f_J2_add_23
      rw [v_gi e1 (k := 0) rfl, p_bs, u_pw e1 hb (Nat.le_of_ble_eq_true rfl), p_bs, v_gr (f1 _) (k := 1) rfl, p_bs, v_gi (f1 _) (k := 2) rfl, p_bs, if_pos (v_is (f1 _)), p_bs, u_len (f2 _), p_bs, n_eq (by omega) (by omega) (by omega) (by omega) (by omega), p_bs, p_bs, if_pos (u_objS hv), u_stR (f2 _) (hba hnm) (by omega) (by omega) (by omega), p_bs, u_pw ((u_sn (Ne.symm na)).trans (f1 _)) hb (Nat.le_of_ble_eq_true rfl), p_bs, p_bs, en]
      rfl
    · rw [u_sn h1, u_sn (h2 hnm), u_sn h1]
    · exact ((ho.set e1).set (f2 _)).set ((u_sn (Ne.symm na)).trans (f1 _))
  · have hnm : n = m := by omega
    subst hnm
    have l1 : vLs (uSet u a (.inr (18, [.int (mc + 1), .ref arr, .int (iI n)]))) a arr n n (mc + 1) xs := ⟨f1 _, f2 _, Nat.le_refl _, e4⟩
    obtain ⟨xs', g1, g2⟩ := l_grow (N := N) (b := b) (g := g) l1 (ho.set e1) hb hbu h0 hm (fun i hi => u_caS (hx i hi)) hn
    have g1 : f_J2_grow N b g (uSet u a (.inr (18, [.int (mc + 1), .ref arr, .int (iI n)]))) a = some (some u.1, uSet (uNew (uSet u a (.inr (18, [.int (mc + 1), .ref arr, .int (iI n)]))) (lGr n) (.inl (4, lGr n, .inr (.inr (.inr (.inr xs')))))) a (.inr (18, [.int (mc + 1), .ref u.1, .int (iI n)]))) := g1
    have gt := lGr_gt (m := n)
    have gb : lGr n ≤ 1000000 := by
      unfold lGr
      split
      · omega
      · split <;> omega
    have ua : u.1 ≠ a := Nat.ne_of_gt a1
    have k1 : (uSet (uNew (uSet u a (.inr (18, [.int (mc + 1), .ref arr, .int (iI n)]))) (lGr n) (.inl (4, lGr n, .inr (.inr (.inr (.inr xs')))))) a (.inr (18, [.int (mc + 1), .ref u.1, .int (iI n)]))).2.2 u.1 = some (.inl (4, lGr n, .inr (.inr (.inr (.inr xs'))))) := (u_sn ua).trans u_nn
    refine ⟨uSet (uSet (uSet (uNew (uSet u a (.inr (18, [.int (mc + 1), .ref arr, .int (iI n)]))) (lGr n) (.inl (4, lGr n, .inr (.inr (.inr (.inr xs')))))) a (.inr (18, [.int (mc + 1), .ref u.1, .int (iI n)]))) u.1 (.inl (4, lGr n, .inr (.inr (.inr (.inr (va_up xs' n (some v)))))))) a (.inr (18, [.int (mc + 1), .ref u.1, .int (iI ((n + 1 : Nat) : Int))])), u.1, lGr n, va_up xs' n (some v), ?_, ⟨u_ss, (u_sn ua).trans u_ss, by omega, gb⟩, fun i hi => (if_neg (by omega)).trans (g2 i hi), if_pos rfl, fun x h1 h2 h3 => ?_, ?_, hbu, Or.inr ⟨rfl, rfl, rfl, rfl, rfl⟩⟩
    · unfold f_J2_add f_J2_add_2 f_J2_add_2_10 f_J2_add_2_11 f_J2_add_23
      have hv2 : uObj (uSet (uNew (uSet u a (.inr (18, [.int (mc + 1), .ref arr, .int (iI n)]))) (lGr n) (.inl (4, lGr n, .inr (.inr (.inr (.inr xs')))))) a (.inr (18, [.int (mc + 1), .ref u.1, .int (iI n)]))) v = true := by
        refine u_objS ?_
        have hv1 := u_objS (a := a) (c := 18) (fs := [.int (mc + 1), .ref arr, .int (iI n)]) hv
        unfold uObj at hv1 ⊢
        cases hc : (uSet u a (.inr (18, [.int (mc + 1), .ref arr, .int (iI n)]))).2.2 v with
        | none => rw [hc] at hv1; cases hv1
        | some e =>
          rw [u_no (ho.set e1) hc]
          rw [hc] at hv1
          exact hv1
      rw [v_gi e1 (k := 0) rfl, p_bs, u_pw e1 hb (Nat.le_of_ble_eq_true rfl), p_bs, v_gr (f1 _) (k := 1) rfl, p_bs, v_gi (f1 _) (k := 2) rfl, p_bs, if_pos (v_is (f1 _)), p_bs, u_len (f2 _), p_bs, if_pos rfl, if_pos (v_is (f1 _))]
      show ((ucall (f_J2_grow N b g (uSet u a (.inr (18, [.int (mc + 1), .ref arr, .int (iI n)]))) a) fun o7 u5 => o7.bind fun a1 => (some v).bind fun a2 => if uObj u5 a2 = true then (uStR b u5 a1 4 (iI n) (some a2)).bind fun u4 => (uPut b u4 a 18 2 (.int (iI n + 1))).bind fun u5 => some u5 else none).bind fun u6 => some (1, u6)) = _
      rw [g1, q_uc, p_bs, p_bs, if_pos hv2, u_stR k1 hbu (by omega) (by omega) (by omega), p_bs, u_pw ((u_sn (Ne.symm ua)).trans u_ss) hb (Nat.le_of_ble_eq_true rfl), p_bs, p_bs, en]
      rfl
    · rw [u_sn h1, u_sn (Nat.ne_of_lt h3), u_sn h1]
      exact (u_nx (u := uSet u a (.inr (18, [.int (mc + 1), .ref arr, .int (iI n)]))) (Nat.ne_of_lt h3)).trans (u_sn h1)
    · exact (((((ho.set e1).new).set (u_no (ho.set e1) (f1 _))).set k1)).set ((u_sn (Ne.symm ua)).trans u_ss)
