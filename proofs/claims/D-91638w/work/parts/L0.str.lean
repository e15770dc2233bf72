/-! PLAIN: the class's strings -/
def hC (f : Nat → Int32) : Nat → Int32
  | 0 => 0
  | k + 1 => 31 * hC f k + (f k &&& 255)
theorem hC_c {f f' : Nat → Int32} : ∀ n, (∀ k, k < n → f k = f' k) → hC f n = hC f' n := by
  intro n
  induction n with
  | zero => intro _; rfl
  | succ n ih =>
    intro h
    show 31 * hC f n + (f n &&& 255) = 31 * hC f' n + (f' n &&& 255)
    rw [ih (fun k hk => h k (by omega)), h n (by omega)]
def vSg (U : UH) (a n : Nat) (f : Nat → Int32) : Prop := ∃ (v : Nat) (h z : Int32), U.2.2 a = some (.inr (20, [.ref v, .int 0, .int h, .int z])) ∧ U.2.2 v = some (.inl (1, n, .inl f))
/-- a string whose hash may be known -/
def vSt (lo : Nat) (U : UH) (a n : Nat) (f : Nat → Int32) : Prop := ∃ (v : Nat) (h z : Int32), U.2.2 a = some (.inr (20, [.ref v, .int 0, .int h, .int z])) ∧ U.2.2 v = some (.inl (1, n, .inl f)) ∧ (h = 0 ∨ h = hC f n) ∧ (z = 0 ∨ hC f n = 0) ∧ lo ≤ v
theorem vSt.g {lo : Nat} {U : UH} {a n : Nat} {f : Nat → Int32} (h : vSt lo U a n f) : vSg U a n f := by
  obtain ⟨v, hh, z, e1, e2, -⟩ := h
  exact ⟨v, hh, z, e1, e2⟩
def wEq (n : Nat) (f : Nat → Int32) (tx : List Int32) : Prop := n = tx.length ∧ ∀ k, k < n → f k = tx.getD k 0
section I1s
variable {N b lo : Nat} {g : uEnv} {U : UH}
theorem c_lat {a v : Nat} {h z : Int32} (hx : U.2.2 a = some (.inr (20, [.ref v, .int 0, .int h, .int z]))) : f_J6_isLatin1 N b g U a = some (1, U) := by
  unfold f_J6_isLatin1
  rw [if_neg (by decide), v_gi hx (k := 1) rfl, p_bs, if_pos rfl]
  rfl
theorem c_eq9 {v v' n : Nat} {f f' : Nat → Int32} (h : U.2.2 v = some (.inl (1, n, .inl f))) (h' : U.2.2 v' = some (.inl (1, n, .inl f'))) (hn : n ≤ 1000) : ∀ (m k : Nat), k ≤ n → n < k + m → (∀ j, j < k → f j = f' j) → ((∀ j, j < n → f j = f' j) → f_J11_equals_9 N b g m U (some v) (some v') (iI k) = some (1, U)) ∧ (¬ (∀ j, j < n → f j = f' j) → f_J11_equals_9 N b g m U (some v) (some v') (iI k) = some (0, U)) := by
  intro m
  induction m with
  | zero => intro k h1 h2; omega
  | succ m ih =>
    intro k h1 h2 h3
    rw [f_J11_equals_9, p_bs, u_len h, p_bs]
    by_cases hk : k = n
    · subst hk
      rw [p_le (by omega) (by omega) (by omega) (by omega) (by omega)]
      exact ⟨fun _ => rfl, fun z => absurd h3 z⟩
    · have ek : iI (k : Int) + 1 = iI ((k + 1 : Nat) : Int) := by
        rw [j1, i_add]
        rfl
      have L1 : uLdI U v 1 (iI (k : Int)) = some (f k) := u_ldI h (by omega) (by omega) (by omega)
      have L2 : uLdI U v' 1 (iI (k : Int)) = some (f' k) := u_ldI h' (by omega) (by omega) (by omega)
      rw [n_le (by omega) (by omega) (by omega) (by omega) (by omega), L1, p_bs, p_bs, L2, p_bs]
      by_cases c : f k = f' k
      · obtain ⟨i1, i2⟩ := ih (k + 1) (by omega) (by omega) (fun j hj => by
          by_cases q : j = k
          · rw [q]
            exact c
          · exact h3 j (by omega))
        rw [if_pos c, ek, p_let]
        exact ⟨i1, i2⟩
      · rw [if_neg c]
        exact ⟨fun z => absurd (z k (by omega)) c, fun _ => rfl⟩
theorem c_equals {a a' n n' : Nat} {f f' : Nat → Int32} (h : vSg U a n f) (h' : vSg U a' n' f') (hn : n ≤ 1000) (hn' : n' ≤ 1000) (hN : 1001 ≤ N) : ((n = n' ∧ ∀ k, k < n → f k = f' k) → f_J6_equals N b g U a (some a') = some (1, U)) ∧ (¬ (n = n' ∧ ∀ k, k < n → f k = f' k) → f_J6_equals N b g U a (some a') = some (0, U)) := by
  obtain ⟨v, hh, z, e1, e2⟩ := h
  obtain ⟨v', hh', z', e3, e4⟩ := h'
  unfold f_J6_equals
  by_cases c : a = a'
  · subst c
    rw [e1] at e3
    injection e3 with e3
    injection e3 with e3
    injection e3 with _ e3
    injection e3 with e3 _
    injection e3 with e3
    subst e3
    rw [e2] at e4
    injection e4 with e4
    injection e4 with e4
    injection e4 with _ e4
    injection e4 with e4 e5
    injection e5 with e5
    subst e4
    subst e5
    rw [if_pos rfl]
    exact ⟨fun _ => rfl, fun z => absurd ⟨rfl, fun _ _ => rfl⟩ z⟩
  · have c' : ¬ some a = some a' := fun z => c (by injection z)
    rw [if_neg c', p_bs, if_pos (v_is e3), if_neg n10, if_pos (v_is e3), if_neg n10, v_gi e1 (k := 1) rfl, p_bs, v_gi e3 (k := 1) rfl, p_bs, if_pos rfl]
    unfold f_J6_equals_36 f_J6_equals_54 f_J6_equals_55 f_J11_equals
    rw [v_gr e1 (k := 0) rfl, p_bs, p_bs, v_gr e3 (k := 0) rfl, p_bs, p_bs, u_len e2, p_bs, p_bs, u_len e4, p_bs]
    by_cases cn : n = n'
    · subst cn
      obtain ⟨i1, i2⟩ := c_eq9 (N := N) (b := b) (g := g) e2 e4 hn N 0 (by omega) (by omega) (fun j hj => by omega)
      have i1 : (∀ j, j < n → f j = f' j) → f_J11_equals_9 N b g N U (some v) (some v') 0 = some (1, U) := i1
      have i2 : ¬ (∀ j, j < n → f j = f' j) → f_J11_equals_9 N b g N U (some v) (some v') 0 = some (0, U) := i2
      rw [if_pos rfl]
      constructor
      · intro q
        rw [i1 q.2, q_uc, if_neg n10]
        rfl
      · intro q
        rw [i2 (fun y => q ⟨rfl, y⟩), q_uc, if_pos rfl]
        rfl
    · rw [n_eq (by omega) (by omega) (by omega) (by omega) (by omega), q_uc, if_pos rfl]
      exact ⟨fun q => absurd q.1 cn, fun _ => rfl⟩
theorem c_eqL {a a' n : Nat} {f : Nat → Int32} {tx : List Int32} (h : vSg U a n f) (h' : uLit U a' tx) (hn : n ≤ 1000) (hn' : tx.length ≤ 1000) (hN : 1001 ≤ N) : (wEq n f tx → f_J6_equals N b g U a (some a') = some (1, U)) ∧ (¬ wEq n f tx → f_J6_equals N b g U a (some a') = some (0, U)) := by
  obtain ⟨v', hh', f', e3, e4, e5⟩ := h'
  obtain ⟨i1, i2⟩ := c_equals (N := N) (b := b) (g := g) h ⟨v', hh', 0, e3, e4⟩ hn hn' hN
  constructor
  · intro q
    exact i1 ⟨q.1, fun k hk => (q.2 k hk).trans (e5 k (by have := q.1; omega)).symm⟩
  · intro q
    refine i2 (fun y => q ⟨y.1, fun k hk => (y.2 k hk).trans (e5 k (by have := y.1; omega))⟩)
theorem c_slen {a n : Nat} {f : Nat → Int32} (h : vSg U a n f) : f_J6_length N b g U a = some (iI n, U) := by
  obtain ⟨v, hh, z, e1, e2⟩ := h
  have r3 : f_J6_coder N b g U a = some (0, U) := by
    unfold f_J6_coder
    rw [if_neg (by decide), v_gi e1 (k := 1) rfl]
    rfl
  have hs : iI (n : Int) >>> ((0 : Int32) &&& 31) = iI (n : Int) := by
    show iI (n : Int) >>> (0 : Int32) = iI (n : Int)
    exact Int32.shiftRight_zero
  unfold f_J6_length
  rw [v_gr e1 (k := 0) rfl, p_bs, p_bs, u_len e2, p_bs, if_pos (v_is e1), r3, q_uc, hs]
theorem t_cha : ∀ c : Fin 128, ((iI (c.1 : Int) &&& 255).toUInt32 % 65536).toInt32 = iI (c.1 : Int) ∧ uFit .char (iI (c.1 : Int)) = true ∧ ((iI (c.1 : Int)).toUInt32 % 65536).toInt32 = iI (c.1 : Int) ∧ vp_nar .byte ((iI (c.1 : Int)).toInt8.toInt32) = iI (c.1 : Int) ∧ fits .byte (.int (iI (c.1 : Int))) = true ∧ iI (c.1 : Int) &&& 255 = iI (c.1 : Int) ∧ (iI (c.1 : Int)).toInt8.toInt32 = iI (c.1 : Int) := by decide +kernel
theorem c_char {a n k c : Nat} {f : Nat → Int32} (h : vSg U a n f) (hk : k < n) (hn : n ≤ 1000) (hf : f k = iI c) (hc : c < 128) : f_J6_charAt N b g U a (iI k) = some (iI c, U) := by
  obtain ⟨v, hh, z, e1, e2⟩ := h
  obtain ⟨t1, t2, -⟩ := t_cha ⟨c, hc⟩
  have t1 : ((iI (c : Int) &&& 255).toUInt32 % 65536).toInt32 = iI (c : Int) := t1
  have t2 : uFit .char (iI (c : Int)) = true := t2
  have L1 : uLdI U v 1 (iI (k : Int)) = some (iI (c : Int)) := by
    rw [← hf]
    exact u_ldI e2 (by omega) (by omega) (by omega)
  have r6 : f_J6_checkIndex N b g U (iI k) (iI n) = some U := by
    unfold f_J6_checkIndex f_J12_checkIndex
    rw [p_let, if_neg (show ¬ iI (k : Int) < 0 by
      rw [j0, j_lt (by omega) (by omega) (by omega) (by omega)]
      omega), p_lt (by omega) (by omega) (by omega) (by omega) (by omega), q_uc]
  unfold f_J6_charAt f_J11_charAt
  rw [if_pos (v_is e1), c_lat e1, q_uc, if_neg n10, v_gr e1 (k := 0) rfl, p_bs, p_bs, u_len e2, p_bs, r6, p_bs, L1, p_bs, t1, if_pos t2, q_uc, if_pos t2]
/-- the hash -/
theorem c_sh8 {v n : Nat} {f : Nat → Int32} (h : U.2.2 v = some (.inl (1, n, .inl f))) (hn : n ≤ 1000) : ∀ (m k : Nat), k ≤ n → n < k + m → f_J8_signedHashCode_8 N b g m U (hC f k) (some v) (iI n) (iI k) = some (hC f n, U) := by
  intro m
  induction m with
  | zero => intro k h1 h2; omega
  | succ m ih =>
    intro k h1 h2
    rw [f_J8_signedHashCode_8]
    by_cases hk : k = n
    · subst hk
      rw [p_le (by omega) (by omega) (by omega) (by omega) (by omega)]
    · have ek : iI (k : Int) + 1 = iI ((k + 1 : Nat) : Int) := by
        rw [j1, i_add]
        rfl
      have L1 : uLdI U v 1 (iI (k : Int)) = some (f k) := u_ldI h (by omega) (by omega) (by omega)
      rw [n_le (by omega) (by omega) (by omega) (by omega) (by omega), p_bs, L1, p_bs, p_let, ek, p_let]
      exact ih (k + 1) (by omega) (by omega)
theorem c_h11 {v n : Nat} {f : Nat → Int32} (h : U.2.2 v = some (.inl (1, n, .inl f))) (hn : n ≤ 1000) (hN : 1001 ≤ N) : f_J11_hashCode N b g U (some v) = some (hC f n, U) := by
  unfold f_J11_hashCode f_J11_hashCode_51 f_J8_vectorizedHashCode f_J8_vectorizedHashCode_157 f_J8_signedHashCode
  rw [p_bs, u_len h, p_bs]
  by_cases c0 : n = 0
  · subst c0
    rw [if_pos (show iI ((0 : Nat) : Int) = 0 from rfl)]
    rfl
  · rw [if_neg (show ¬ iI (n : Int) = 0 by
      rw [j0, j_eq (by omega) (by omega) (by omega) (by omega)]
      omega)]
    by_cases c1 : n = 1
    · subst c1
      have L1 : uLdI U v 1 (iI ((0 : Nat) : Int)) = some (f 0) := u_ldI h (by omega) (by omega) (by omega)
      have L1 : uLdI U v 1 0 = some (f 0) := L1
      rw [if_pos (show iI ((1 : Nat) : Int) = 1 from rfl), L1, p_bs]
      show some (f 0 &&& 255, U) = some (31 * 0 + (f 0 &&& 255), U)
      rw [show (31 : Int32) * 0 = 0 from rfl, Int32.zero_add]
    · have z0 : (0 : Int32) + iI (n : Int) = iI (n : Int) := Int32.zero_add _
      have lp := c_sh8 (N := N) (b := b) (g := g) h hn N 0 (by omega) (by omega)
      have lp : f_J8_signedHashCode_8 N b g N U 0 (some v) (iI n) 0 = some (hC f n, U) := lp
      rw [if_neg (show ¬ iI (n : Int) = 1 by
        rw [j1, j_eq (by omega) (by omega) (by omega) (by omega)]
        omega), p_bs, if_pos rfl, p_bs, if_pos (u_isA h), z0, p_let, lp, q_uc, q_uc]
theorem c_hash {a n : Nat} {f : Nat → Int32} (h : vSt lo U a n f) (hb : b ≤ a) (ho : uOld U) (hn : n ≤ 1000) (hN : 1001 ≤ N) : ∃ U', f_J6_hashCode N b g U a = some (hC f n, U') ∧ vSt lo U' a n f ∧ (∀ x, x ≠ a → U'.2.2 x = U.2.2 x) ∧ uOld U' ∧ U'.1 = U.1 ∧ U'.2.1 = U.2.1 := by
  obtain ⟨v, hh, z, e1, e2, e3, e4, e5⟩ := h
  have nv : v ≠ a := u_nlr e2 e1
  unfold f_J6_hashCode f_J6_hashCode_40 f_J6_hashCode_58
  rw [v_gi e1 (k := 2) rfl, p_bs]
  by_cases ch : hh = 0
  · rw [if_pos ch, v_gi e1 (k := 3) rfl, p_bs]
    by_cases cz : z = 0
    · rw [if_pos cz, if_pos (v_is e1), c_lat e1, q_uc, if_neg n10, v_gr e1 (k := 0) rfl, p_bs, c_h11 e2 hn hN, q_uc]
      by_cases c0 : hC f n = 0
      · obtain ⟨u', w1, w2, w3, w4, w5, w6⟩ := w_put (b := b) (k := 3) (v := .int 1) e1 hb (Nat.le_of_ble_eq_true rfl) ho
        rw [if_pos c0, w1, p_bs]
        exact ⟨u', rfl, ⟨v, hh, 1, w2, (w3 v nv).trans e2, e3, Or.inr c0, e5⟩, w3, w4, w5, w6⟩
      · obtain ⟨u', w1, w2, w3, w4, w5, w6⟩ := w_put (b := b) (k := 2) (v := .int (hC f n)) e1 hb (Nat.le_of_ble_eq_true rfl) ho
        rw [if_neg c0, w1, p_bs]
        exact ⟨u', rfl, ⟨v, hC f n, z, w2, (w3 v nv).trans e2, Or.inr rfl, e4, e5⟩, w3, w4, w5, w6⟩
    · rw [if_neg cz]
      refine ⟨U, ?_, ⟨v, hh, z, e1, e2, e3, e4, e5⟩, fun _ _ => rfl, ho, rfl, rfl⟩
      rcases e4 with q | q
      · exact absurd q cz
      · rw [ch, q]
  · rw [if_neg ch]
    refine ⟨U, ?_, ⟨v, hh, z, e1, e2, e3, e4, e5⟩, fun _ _ => rfl, ho, rfl, rfl⟩
    rcases e3 with q | q
    · exact absurd q ch
    · rw [q]
/-- a string that is built -/
def vSb (U : UH) (a v cnt : Nat) (f : Nat → Int32) : Prop := ∃ q : Value, U.2.2 a = some (.inr (19, [.ref v, .int 0, q, .int (iI cnt)])) ∧ U.2.2 v = some (.inl (1, 16, .inl f))
theorem u_dfJ5 : uDefs tyJ5 4 = [.null, .int 0, .int 0, .int 0] := by rfl
theorem u_dfJ6 : uDefs tyJ6 4 = [.null, .int 0, .int 0, .int 0] := by rfl
theorem c_sbn (ho : uOld U) (hb : b ≤ U.1) : ∃ U', f_J5_init N b g (uNew U 4 (.inr (19, uDefs tyJ5 4))) U.1 = some U' ∧ vSb U' U.1 (U.1 + 1) 0 (fun _ => 0) ∧ (∀ x, x < U.1 → U'.2.2 x = U.2.2 x) ∧ uOld U' ∧ U'.1 = U.1 + 2 ∧ U'.2.1 = U.2.1 + 20 := by
  obtain ⟨u1, e1, c1, k1, o1, s1, z1⟩ := w_new (u := U) (n := 4) (e := .inr (19, uDefs tyJ5 4)) ho
  rw [u_dfJ5] at c1
  obtain ⟨u2, e2, c2, k2, o2, s2, z2⟩ := w_new (u := u1) (n := 16) (e := .inl (1, 16, .inl (fun _ => 0))) o1
  obtain ⟨u3, e3, c3, k3, o3, s3, z3⟩ := w_put (b := b) (k := 0) (v := va_rf (some u1.1)) ((k2 U.1 (by omega)).trans c1) hb (Nat.le_of_ble_eq_true rfl) o2
  obtain ⟨u4, e4, c4, k4, o4, s4, z4⟩ := w_put (b := b) (k := 1) (v := .int 0) c3 hb (Nat.le_of_ble_eq_true rfl) o3
  have c4' : u4.2.2 U.1 = some (.inr (19, [.ref u1.1, .int 0, .int 0, .int 0])) := c4
  refine ⟨u4, ?_, ⟨.int 0, ?_, ?_⟩, fun x hx => ?_, o4, by omega, by omega⟩
  · unfold f_J5_init f_J5_init_6 f_J4_init f_J4_init_14 f_J4_init_38
    rw [if_neg n10, if_pos (show ¬ (16 : Int32) < 0 ∧ (16 : Int32).toNatClampNeg ≤ 60000000 by decide), e1, p_let, p_let, show (16 : Int32).toNatClampNeg = 16 from rfl, e2, p_bs, e3, p_bs, e4, p_bs, p_bs]
  · rw [c4', s1]
    rfl
  · rw [← s1, k4 _ (by omega), k3 _ (by omega)]
    exact c2
  · rw [k4 x (by omega), k3 x (by omega), k2 x (by omega), k1 x hx]
theorem c_sba {a v cnt c : Nat} {f : Nat → Int32} (h : vSb U a v cnt f) (ha : b ≤ a) (hv : b ≤ v) (ho : uOld U) (hc : c < 128) (hn : cnt < 16) : ∃ U', f_J5_append N b g U a (iI c) = some (some a, U') ∧ vSb U' a v (cnt + 1) (upd f cnt (iI c)) ∧ (∀ x, x ≠ a → x ≠ v → U'.2.2 x = U.2.2 x) ∧ uOld U' ∧ U'.1 = U.1 ∧ U'.2.1 = U.2.1 := by
  obtain ⟨q, e1, e2⟩ := h
  have nv : v ≠ a := u_nlr e2 e1
  obtain ⟨-, -, -, t4, -⟩ := t_cha ⟨c, hc⟩
  have t4 : vp_nar .byte ((iI (c : Int)).toInt8.toInt32) = iI (c : Int) := t4
  have ec : iI (cnt : Int) + 1 = iI ((cnt + 1 : Nat) : Int) := by
    rw [j1, i_add]
    rfl
  have hs : iI ((16 : Nat) : Int) >>> ((0 : Int32) &&& 31) = iI 16 := by decide
  have lt : f_J4_isLatin1 N b g U a = some (1, U) := by
    unfold f_J4_isLatin1
    rw [if_neg n10, v_gi e1 (k := 1) rfl, p_bs, if_pos rfl]
    rfl
  have en : f_J4_ensureCapacityInternal N b g U a (iI ((cnt + 1 : Nat) : Int)) = some U := by
    unfold f_J4_ensureCapacityInternal f_J4_ensureCapacityInternal_38
    rw [v_gr e1 (k := 0) rfl, p_bs, p_bs, u_len e2, p_bs, v_gi e1 (k := 1) rfl, p_bs, hs, p_let, i_sub, j0, p_le (by omega) (by omega) (by omega) (by omega) (by omega)]
  have ce : f_J11_canEncode N b g U (iI c) = some (1, U) := by
    unfold f_J11_canEncode f_J11_canEncode_12
    rw [show (255 : Int32) = iI 255 from rfl, n_lt (by omega) (by omega) (by omega) (by omega) (by omega)]
    rfl
  obtain ⟨u1, g1, g2, g3, g4, g5, g6⟩ := w_put (b := b) (k := 3) (v := .int (iI ((cnt + 1 : Nat) : Int))) e1 ha (Nat.le_of_ble_eq_true rfl) ho
  obtain ⟨u2, h1, h2, h3, h4, h5, h6⟩ := w_stI (b := b) (i := (cnt : Int)) (x := iI c) ((g3 v nv).trans e2) hv (by omega) (by omega) (by omega) g4
  refine ⟨u2, ?_, ⟨q, (h3 a (Ne.symm nv)).trans g2, h2⟩, fun x q1 q2 => (h3 x q2).trans (g3 x q1), h4, by omega, by omega⟩
  unfold f_J5_append f_J5_append_5 f_J4_append f_J4_append_10 f_J4_append_75
  rw [if_pos (v_is e1), v_gi e1 (k := 3) rfl, p_bs, if_pos (v_is e1), ec, en, p_bs, if_pos (v_is e1), lt, q_uc, if_neg n10, ce, q_uc, if_neg n10, v_gr e1 (k := 0) rfl, p_bs, v_gi e1 (k := 3) rfl, p_bs, ec, g1, p_bs, p_bs, t4, h1, p_bs, q_uc]
theorem c_sbs {a v cnt : Nat} {f : Nat → Int32} (h : vSb U a v cnt f) (hb : b ≤ U.1) (hlo : lo ≤ U.1) (ho : uOld U) (hn : cnt < 16) (hf : ∀ k, k < cnt → ∃ c : Nat, f k = iI c ∧ c < 128) : ∃ U' f', f_J5_toString N b g U a = some (some U.1, U') ∧ vSt lo U' U.1 cnt f' ∧ (∀ k, k < cnt → f' k = f k) ∧ (∀ x, x < U.1 → U'.2.2 x = U.2.2 x) ∧ uOld U' ∧ U'.1 = U.1 + 2 ∧ U'.2.1 = U.2.1 + (4 + cnt) := by
  obtain ⟨q, e1, e2⟩ := h
  have la := ho _ _ e1
  have lv := ho _ _ e2
  obtain ⟨u1, d1, c1, k1, o1, s1, z1⟩ := w_new (u := U) (n := 4) (e := .inr (20, uDefs tyJ6 4)) ho
  rw [u_dfJ6] at c1
  have a1 : u1.2.2 a = some (.inr (19, [.ref v, .int 0, q, .int (iI cnt)])) := (k1 a la).trans e1
  obtain ⟨u2, d2, c2, k2, o2, s2, z2⟩ := w_put (b := b) (k := 1) (v := .int 0) c1 hb (Nat.le_of_ble_eq_true rfl) o1
  obtain ⟨u3, d3, c3, k3, o3, s3, z3⟩ := w_new (u := u2) (n := cnt) (e := .inl (1, cnt, .inl (fun _ => 0))) o2
  have v3 : u3.2.2 v = some (.inl (1, 16, .inl f)) := by
    rw [k3 v (by omega), k2 v (by omega), k1 v lv]
    exact e2
  have v2 : u2.2.2 v = some (.inl (1, 16, .inl f)) := by
    rw [k2 v (by omega), k1 v lv]
    exact e2
  have zn : (iI (cnt : Int)).toNatClampNeg = cnt := by
    rw [j_nat (by omega) (by omega)]
    rfl
  have cp : uCpB b u3 v 0 u2.1 0 (iI cnt) = some (uSet u3 u2.1 (.inl (1, cnt, .inl (va_cpy f (fun _ => 0) 0 0 cnt)))) := by
    unfold uCpB
    rw [v3, c3]
    show (if 1 = 1 ∧ 1 = 1 ∧ b ≤ u2.1 ∧ ¬ (0 : Int32) < 0 ∧ ¬ (0 : Int32) < 0 ∧ ¬ iI (cnt : Int) < 0 ∧ (0 : Int32).toNatClampNeg + (iI (cnt : Int)).toNatClampNeg ≤ 16 ∧ (0 : Int32).toNatClampNeg + (iI (cnt : Int)).toNatClampNeg ≤ cnt ∧ (List.range (iI (cnt : Int)).toNatClampNeg).all (fun i => fits .byte (.int (f ((0 : Int32).toNatClampNeg + i)))) = true then some (uSet u3 u2.1 (.inl (1, cnt, .inl (va_cpy f (fun _ => 0) (0 : Int32).toNatClampNeg (0 : Int32).toNatClampNeg (iI (cnt : Int)).toNatClampNeg)))) else none) = _
    rw [show (0 : Int32).toNatClampNeg = 0 from rfl, zn]
    refine if_pos ⟨rfl, rfl, by omega, by decide, by decide, ?_, by omega, by omega, ?_⟩
    · rw [j0, j_lt (by omega) (by omega) (by omega) (by omega)]
      omega
    · rw [List.all_eq_true]
      intro i hi
      rw [Nat.zero_add]
      obtain ⟨c, y1, y2⟩ := hf i (List.mem_range.mp hi)
      obtain ⟨-, -, -, -, t5, -⟩ := t_cha ⟨c, y2⟩
      rw [y1]
      exact t5
  have n1 : U.1 ≠ u2.1 := by omega
  have cU : (uSet u3 u2.1 (.inl (1, cnt, .inl (va_cpy f (fun _ => 0) 0 0 cnt)))).2.2 U.1 = some (.inr (20, [.null, .int 0, .int 0, .int 0])) := by
    rw [u_sn n1, k3 _ (by omega)]
    exact c2
  obtain ⟨u5, d5, c5, k5, o5, s5, z5⟩ := w_put (b := b) (k := 0) (v := va_rf (some u2.1)) cU hb (Nat.le_of_ble_eq_true rfl) (o3.set c3)
  have mn : f_J9_min N b g u3 (iI ((16 : Nat) : Int) - 0) (iI cnt) = some (iI cnt, u3) := by
    rw [j0, i_sub, j_min (by omega) (by omega) (by omega) (by omega)]
    congr 3
    split <;> omega
  have cr : f_J10_copyOfRange N b g u2 (some v) 0 (iI cnt) = some (some u2.1, uSet u3 u2.1 (.inl (1, cnt, .inl (va_cpy f (fun _ => 0) 0 0 cnt)))) := by
    unfold f_J10_copyOfRange f_J10_copyOfRange_10 f_J10_copyOfRange_16 f_J10_copyOfRangeByte f_J10_copyOfRangeByte_12 f_J10_checkLength
    rw [if_pos rfl, p_bs, u_len v2, p_bs, if_neg (show ¬ iI (cnt : Int) = iI ((16 : Nat) : Int) by
      rw [j_eq (by omega) (by omega) (by omega) (by omega)]
      omega), if_pos (show (0 : Int32) ≤ iI (cnt : Int) by
      rw [j0, j_le (by omega) (by omega) (by omega) (by omega)]
      omega), p_bs, show iI (cnt : Int) - 0 = iI (cnt : Int) by rw [j0, i_sub, Int.sub_zero], p_let, zn, if_pos (show ¬ iI (cnt : Int) < 0 ∧ cnt ≤ 60000000 by
      rw [j0, j_lt (by omega) (by omega) (by omega) (by omega)]
      omega), p_let, p_let, d3, p_bs, u_len v3, p_bs, mn, q_uc, p_bs, cp, p_bs, q_uc]
  have lt : f_J4_isLatin1 N b g u1 a = some (1, u1) := by
    unfold f_J4_isLatin1
    rw [if_neg n10, v_gi a1 (k := 1) rfl, p_bs, if_pos rfl]
    rfl
  refine ⟨u5, va_cpy f (fun _ => 0) 0 0 cnt, ?_, ⟨u2.1, 0, 0, c5, (k5 _ (Ne.symm n1)).trans u_ss, Or.inl rfl, Or.inl rfl, by omega⟩, fun k hk => ?_, fun x hx => ?_, o5, ?_, ?_⟩
  · unfold f_J5_toString f_J5_toString_3 f_J5_toString_8 f_J6_init f_J6_init_6 f_J6_init_2 f_J6_init_2_35 f_J6_init_2_97 f_J4_getValue f_J5_length f_J4_length
    rw [p_let, p_let, d1, p_bs, p_bs, if_pos (v_is a1), v_gr a1 (k := 0) rfl, p_bs, q_uc, if_pos (v_is a1), if_pos (v_is a1), v_gi a1 (k := 3) rfl, p_bs, q_uc, q_uc, if_pos (v_is a1), lt, q_uc, if_neg n10, d2, p_bs, cr, q_uc, p_bs, d5, p_bs, p_bs, p_bs]
  · unfold va_cpy
    split
    · congr 1
      omega
    · omega
  · rw [k5 x (by omega), u_sn (by omega), k3 x (by omega), k2 x (by omega), k1 x hx]
  · have : (uSet u3 u2.1 (.inl (1, cnt, .inl (va_cpy f (fun _ => 0) 0 0 cnt)))).1 = u3.1 := rfl
    omega
  · have : (uSet u3 u2.1 (.inl (1, cnt, .inl (va_cpy f (fun _ => 0) 0 0 cnt)))).2.1 = u3.2.1 := rfl
    omega
end I1s
