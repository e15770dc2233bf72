/-! PLAIN: the call map -/
theorem w_put {b : Nat} {u : UH} {a c k : Nat} {v : Value} {fs : List Value} (h : u.2.2 a = some (.inr (c, fs))) (hb : b ≤ a) (hk : k < fs.length) (ho : uOld u) : ∃ u', uPut b u a c k v = some u' ∧ u'.2.2 a = some (.inr (c, fs.set k v)) ∧ (∀ x, x ≠ a → u'.2.2 x = u.2.2 x) ∧ uOld u' ∧ u'.1 = u.1 ∧ u'.2.1 = u.2.1 := ⟨_, u_pw h hb hk, u_ss, fun x hx => u_sn hx, ho.set h, rfl, rfl⟩
theorem w_new {u : UH} {n : Nat} {e : uE} (ho : uOld u) : ∃ u', uNew u n e = u' ∧ u'.2.2 u.1 = some e ∧ (∀ x, x < u.1 → u'.2.2 x = u.2.2 x) ∧ uOld u' ∧ u'.1 = u.1 + 1 ∧ u'.2.1 = u.2.1 + n := ⟨_, rfl, u_nn, fun x hx => u_nx (by omega), ho.new, rfl, rfl⟩
theorem u_dfJ2 : uDefs tyJ2 3 = [.int 0, .null, .int 0] := by rfl
theorem u_df14 : uDefs tyX14 11 = [.null, .int 0, .int 0, .null, .null, .null, .null, .null, .int 0, .int 0, .int 0] := by rfl
/-- a new list -/
theorem l_new {N b : Nat} {g : uEnv} {u : UH} {v : Nat} {f : Nat → Option Nat} (h10 : g.1 10 = some v) (hv : u.2.2 v = some (.inl (4, 0, .inr (.inr (.inr (.inr f)))))) (ho : uOld u) (hb : b ≤ u.1) : ∃ u', f_J2_init N b g (uNew u 3 (.inr (18, uDefs tyJ2 3))) u.1 = some u' ∧ vLs u' u.1 v 0 0 0 f ∧ (∀ x, x < u.1 → u'.2.2 x = u.2.2 x) ∧ uOld u' ∧ u'.1 = u.1 + 1 ∧ u'.2.1 = u.2.1 + 3 := by
  obtain ⟨u1, e1, c1, r1, o1, s1, z1⟩ := w_new (u := u) (n := 3) (e := .inr (18, uDefs tyJ2 3)) ho
  rw [u_dfJ2] at c1 e1
  obtain ⟨u2, e2, c2, r2, o2, s2, z2⟩ := w_put (b := b) (k := 0) (v := .int 0) c1 hb (Nat.le_of_ble_eq_true rfl) o1
  obtain ⟨u3, e3, c3, r3, o3, s3, z3⟩ := w_put (b := b) (k := 1) (v := va_rf (some v)) c2 hb (Nat.le_of_ble_eq_true rfl) o2
  have lv := ho _ _ hv
  refine ⟨u3, ?_, ⟨c3, ?_, Nat.le_refl _, by omega⟩, fun x hx => ?_, o3, by omega, by omega⟩
  · unfold f_J2_init f_J1_init f_J0_init
    rw [u_dfJ2, e1, p_bs, e2, p_bs, p_bs, h10, p_let, e3, p_bs]
  · rw [r3 v (by omega), r2 v (by omega), r1 v lv]
    exact hv
  · rw [r3 x (by omega), r2 x (by omega), r1 x hx]
def lNa (a v : Nat) (i : Nat) : Nat := if i = 0 then a else if i = 1 then a + 3 else if i = 2 then a + 4 else if i = 3 then a + 5 else if i = 4 then a + 1 else if i = 6 then a + 2 else v
theorem c_linit {N b : Nat} {g : uEnv} {U : UH} {bk v vv w h : Nat} {f fw : Nat → Option Nat} (h10 : g.1 10 = some v) (hv : U.2.2 v = some (.inl (4, 0, .inr (.inr (.inr (.inr f)))))) (h9 : g.1 9 = some vv) (hvv : U.2.2 vv = some (.inl (5, 4, .inr (.inr (.inr (.inr fw)))))) (hfw : ∀ y, y < 4 → ∃ wr, fw y = some wr ∧ uWay g wr = some y) (ho : uOld U) (hb : b ≤ U.1) (hw : 1 ≤ w ∧ w ≤ 10) (hh : 1 ≤ h ∧ h ≤ 10) (da wa : Nat → Nat) (kn : Nat → Int) (wg : Nat → Nat → Nat) : ∃ u', f_X14_init N b g (uNew U 11 (.inr (12, uDefs tyX14 11))) U.1 (some bk) (iI w) (iI h) = some u' ∧ vLd u' g (lNa U.1 v) da wa bk (.int 0) (.int 0) (.int 0) w h (w * h) 0 (fun _ => 0) (fun _ => 0) (fun _ => -1) kn wg ∧ (∀ x, x < U.1 → u'.2.2 x = U.2.2 x) ∧ uOld u' ∧ u'.1 = U.1 + 6 ∧ u'.2.1 = U.2.1 + (18 + 3 * (w * h)) := by
  have m4 : w * h ≤ 10 * 10 := Nat.mul_le_mul hw.2 hh.2
  have ew : iI (w : Int) * iI (h : Int) = iI ((w * h : Nat) : Int) := by
    rw [i_mul]
    rfl
  have zn : (iI ((w * h : Nat) : Int)).toNatClampNeg = w * h := by
    rw [j_nat (by omega) (by omega)]
    rfl
  have zc : ¬ iI ((w * h : Nat) : Int) < 0 ∧ (iI ((w * h : Nat) : Int)).toNatClampNeg ≤ 60000000 := by
    rw [zn, j0, j_lt (by omega) (by omega) (by omega) (by omega)]
    omega
  have zc2 : ¬ iI ((w * h : Nat) : Int) < 0 ∧ w * h ≤ 60000000 := by
    rw [zn] at zc
    exact zc
  have lv := ho _ _ hv
  have lvv := ho _ _ hvv
  obtain ⟨u1, e1, c1, r1, o1, s1, z1⟩ := w_new (u := U) (n := 11) (e := .inr (12, uDefs tyX14 11)) ho
  rw [u_df14] at c1
  have hv1 : u1.2.2 v = some (.inl (4, 0, .inr (.inr (.inr (.inr f))))) := (r1 v lv).trans hv
  obtain ⟨u2, e2, l2, r2, o2, s2, z2⟩ := l_new (N := N) (b := b) h10 hv1 o1 (by omega)
  have c2 : u2.2.2 U.1 = some (.inr (12, [.null, .int 0, .int 0, .null, .null, .null, .null, .null, .int 0, .int 0, .int 0])) := (r2 U.1 (by omega)).trans c1
  obtain ⟨u3, e3, c3, r3, o3, s3, z3⟩ := w_put (b := b) (k := 6) (v := va_rf (some u1.1)) c2 hb (Nat.le_of_ble_eq_true rfl) o2
  have hvv3 : u3.2.2 vv = some (.inl (5, 4, .inr (.inr (.inr (.inr fw))))) := by
    rw [r3 vv (by omega), r2 vv (by omega), r1 vv lvv]
    exact hvv
  have cw : uClW g u3 vv = some (uNew u3 4 (.inl (5, 4, .inr (.inr (.inr (.inr fw)))))) := by
    unfold uClW
    rw [hvv3]
    exact if_pos ⟨rfl, rfl, h9⟩
  obtain ⟨u4, e4, c4, r4, o4, s4, z4⟩ := w_new (u := u3) (n := 4) (e := .inl (5, 4, .inr (.inr (.inr (.inr fw))))) o3
  have c5 : u4.2.2 U.1 = some (.inr (12, [.null, .int 0, .int 0, .null, .null, .null, .ref u1.1, .null, .int 0, .int 0, .int 0])) := (r4 U.1 (by omega)).trans c3
  obtain ⟨u6, e6, c6, r6, o6, s6, z6⟩ := w_put (b := b) (k := 7) (v := va_rf (some u3.1)) c5 hb (Nat.le_of_ble_eq_true rfl) o4
  obtain ⟨u7, e7, c7, r7, o7, s7, z7⟩ := w_put (b := b) (k := 0) (v := va_rf (some bk)) c6 hb (Nat.le_of_ble_eq_true rfl) o6
  obtain ⟨u8, e8, c8, r8, o8, s8, z8⟩ := w_put (b := b) (k := 1) (v := .int (iI w)) c7 hb (Nat.le_of_ble_eq_true rfl) o7
  obtain ⟨u9, e9, c9, r9, o9, s9, z9⟩ := w_put (b := b) (k := 2) (v := .int (iI h)) c8 hb (Nat.le_of_ble_eq_true rfl) o8
  obtain ⟨ua, ea, ca, ra, oa, sa, za⟩ := w_new (u := u9) (n := w * h) (e := .inl (0, w * h, .inl (fun _ => 0))) o9
  obtain ⟨ub, eb, cb, rb, ob, sb, zb⟩ := w_put (b := b) (k := 3) (v := va_rf (some u9.1)) ((ra U.1 (by omega)).trans c9) hb (Nat.le_of_ble_eq_true rfl) oa
  obtain ⟨uc, ec, cc, rc, oc, sc, zc'⟩ := w_new (u := ub) (n := w * h) (e := .inl (0, w * h, .inl (fun _ => 0))) ob
  obtain ⟨ud, ed, cd, rd, od, sd, zd⟩ := w_put (b := b) (k := 4) (v := va_rf (some ub.1)) ((rc U.1 (by omega)).trans cb) hb (Nat.le_of_ble_eq_true rfl) oc
  obtain ⟨ue, ee, ce, re, oe, se, ze⟩ := w_new (u := ud) (n := w * h) (e := .inl (6, w * h, .inr (.inr (.inr (.inr (fun _ => none)))))) od
  obtain ⟨uf, ef, cf, rf', of', sf, zf⟩ := w_put (b := b) (k := 5) (v := va_rf (some ud.1)) ((re U.1 (by omega)).trans cd) hb (Nat.le_of_ble_eq_true rfl) oe
  have k1 : u1.1 = U.1 + 1 := s1
  have k3 : u3.1 = U.1 + 2 := by omega
  have k9 : u9.1 = U.1 + 3 := by omega
  have kb : ub.1 = U.1 + 4 := by omega
  have kd : ud.1 = U.1 + 5 := by omega
  have lo : ∀ x, x < U.1 → uf.2.2 x = U.2.2 x := fun x hx => by
    rw [rf' x (by omega), re x (by omega), rd x (by omega), rc x (by omega), rb x (by omega), ra x (by omega), r9 x (by omega), r8 x (by omega), r7 x (by omega), r6 x (by omega), r4 x (by omega), r3 x (by omega), r2 x (by omega), r1 x hx]
  have x5 : uf.2.2 (U.1 + 5) = some (.inl (6, w * h, .inr (.inr (.inr (.inr (fun _ => none)))))) := by
    rw [rf' _ (by omega), ← kd]
    exact ce
  have x4 : uf.2.2 (U.1 + 4) = some (.inl (0, w * h, .inl (fun _ => 0))) := by
    rw [rf' _ (by omega), re _ (by omega), rd _ (by omega), ← kb]
    exact cc
  have x3 : uf.2.2 (U.1 + 3) = some (.inl (0, w * h, .inl (fun _ => 0))) := by
    rw [rf' _ (by omega), re _ (by omega), rd _ (by omega), rc _ (by omega), rb _ (by omega), ← k9]
    exact ca
  have x2 : uf.2.2 (U.1 + 2) = some (.inl (5, 4, .inr (.inr (.inr (.inr fw))))) := by
    rw [rf' _ (by omega), re _ (by omega), rd _ (by omega), rc _ (by omega), rb _ (by omega), ra _ (by omega), r9 _ (by omega), r8 _ (by omega), r7 _ (by omega), r6 _ (by omega), ← k3]
    exact c4
  have x1 : uf.2.2 (U.1 + 1) = some (.inr (18, [.int 0, .ref v, .int (iI 0)])) := by
    rw [rf' _ (by omega), re _ (by omega), rd _ (by omega), rc _ (by omega), rb _ (by omega), ra _ (by omega), r9 _ (by omega), r8 _ (by omega), r7 _ (by omega), r6 _ (by omega), r4 _ (by omega), r3 _ (by omega), ← k1]
    exact l2.1
  have x0 : uf.2.2 U.1 = some (.inr (12, [.ref bk, .int (iI w), .int (iI h), .ref (U.1 + 3), .ref (U.1 + 4), .ref (U.1 + 5), .ref (U.1 + 1), .ref (U.1 + 2), .int 0, .int 0, .int 0])) := by
    rw [← k9, ← kb, ← kd, ← k1, ← k3]
    exact cf
  refine ⟨uf, ?_, ⟨x0, hw, hh, rfl, by omega, ⟨_, x3, fun k _ => ⟨rfl, (show (0 : Int) ≤ 0 by decide), (show (0 : Int) ≤ 999 by decide)⟩⟩, ⟨_, x4, fun k _ => rfl⟩, ⟨_, x5, fun c _ => ⟨(show (-1 : Int) ≤ -1 by decide), (show (-1 : Int) < ((0 : Nat) : Int) by decide), fun _ => rfl, fun z => absurd rfl z⟩⟩, ⟨0, 0, f, ⟨x1, (lo v lv).trans hv, Nat.le_refl _, by omega⟩, fun e he => by omega⟩, ⟨fw, fun y => if hy : y < 4 then (hfw y hy).choose else 0, x2, fun y hy => ?_⟩, fun e he => by omega⟩, lo, of', by omega, by omega⟩
  · have vi : uIsA u4 u3.1 5 = true := u_isA c4
    have e2' : f_J2_init N b g (uNew u1 3 (.inr (18, uDefs tyJ2 3))) u1.1 = some u2 := e2
    unfold f_X14_init f_X14_init_8 f_X7_values f_X7_values_6 f_X14_init_19 f_X14_init_43 f_X14_init_52 f_X14_init_62
    rw [e1, p_let, p_let, p_bs, e2', p_bs, p_bs, e3, p_bs, h9, p_let, p_bs, p_let, cw, e4, p_bs, p_bs, if_pos vi, q_uc, p_bs, e6, p_bs, e7, p_bs, e8, p_bs, e9, p_bs, ew, if_pos zc, zn, p_let, p_let, ea, p_bs, eb, p_bs, if_pos zc2, p_let, p_let, ec, p_bs, ed, p_bs, if_pos zc2, p_let, p_let, ee, p_bs, ef, p_bs]
  · show fw y = some (if hy : y < 4 then (hfw y hy).choose else 0) ∧ uWay g (if hy : y < 4 then (hfw y hy).choose else 0) = some y
    rw [dif_pos hy]
    exact (hfw y hy).choose_spec
