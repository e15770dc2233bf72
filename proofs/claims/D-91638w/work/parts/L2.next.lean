/-! PLAIN: the next token, of both -/
/-- what stood there at the start -/
def tEn (b : Nat) (g : uEnv) (U : UH) : Prop := ∃ (u0 : UH) (sc L : Nat) (sx : Nat → Int32), uStart b g u0 sc L sx ∧ ∀ x, x < b → U.2.2 x = u0.2.2 x
theorem tEn.keep {b : Nat} {g : uEnv} {U U' : UH} (h : tEn b g U) (hk : ∀ x, x < b → U'.2.2 x = U.2.2 x) : tEn b g U' := by
  obtain ⟨u0, sc, L, sx, h1, h2⟩ := h
  exact ⟨u0, sc, L, sx, h1, fun x hx => (hk x hx).trans (h2 x hx)⟩
theorem t_gTx : gTx.length = 52 := by decide +kernel
theorem tEn.lit {b : Nat} {g : uEnv} {U : UH} (h : tEn b g U) {j : Nat} (hj : j < 52) : uLit U (g.2.1 j) (pTx j) := by
  obtain ⟨u0, sc, L, sx, h1, h2⟩ := h
  obtain ⟨-, -, -, h3, -, -, -, -, -, -, -, h4⟩ := h1
  have e : gTx[j]? = some (gTx[j]'(by rw [t_gTx]; exact hj)) := List.getElem?_eq_getElem _
  obtain ⟨v, hh, f, q1, q2, q3⟩ := h3 j hj _ e
  have ep : pTx j = (gTx[j]'(by rw [t_gTx]; exact hj)).1 := by
    unfold pTx
    rw [e]
    rfl
  rw [ep]
  exact ⟨v, hh, f, (h2 _ (h4 _ _ q1)).trans q1, (h2 _ (h4 _ _ q2)).trans q2, q3⟩
theorem tEn.kd {b : Nat} {g : uEnv} {U : UH} (h : tEn b g U) {i : Nat} (hi : i < 9) : ∃ r, g.1 i = some r := by
  obtain ⟨u0, sc, L, sx, h1, h2⟩ := h
  obtain ⟨-, -, -, -, -, -, -, h3, -⟩ := h1
  obtain ⟨r, q, -⟩ := h3 i hi
  exact ⟨r, q⟩
theorem tEn.ne {b : Nat} {g : uEnv} {U : UH} (h : tEn b g U) {i j : Nat} (hi : i < 9) (hj : j < 9) (hij : i ≠ j) : g.1 i ≠ g.1 j := by
  obtain ⟨u0, sc, L, sx, h1, h2⟩ := h
  obtain ⟨-, -, -, -, -, -, -, -, h3, -⟩ := h1
  by_cases c : i < j
  · exact h3 i j c hj
  · exact Ne.symm (h3 j i (by omega) hi)
def cTp (U : UH) (tp : Nat) (T : Nat → Nat) : Prop := ∃ f : Nat → Int32, U.2.2 tp = some (.inl (1, 500, .inl f)) ∧ ∀ k, k < 500 → T k < 256 ∧ f k &&& 255 = iI (T k) ∧ (T k < 128 → f k = iI (T k))
def rdC (tp n at' st : Nat) (va : Int32) (kv wv : Value) (sg : Int32) : uE := .inr (4, [.ref tp, .int (iI n), .int (iI at'), .int (iI st), .int va, kv, wv, .int sg])
section I5s
variable {N b lo : Nat} {g : uEnv} {U : UH} {rd tp n : Nat} {T : Nat → Nat}
theorem c_here {at' : Nat} {v3 v4 v5 v6 v7 : Value} (hc : U.2.2 rd = some (.inr (4, [.ref tp, .int (iI n), .int (iI at'), v3, v4, v5, v6, v7]))) (ht : cTp U tp T) (hn : n ≤ 500) (ha : at' ≤ 500) : f_X5_here N b g U rd = some (iI (tC T n at'), U) := by
  obtain ⟨f, e1, e2⟩ := ht
  unfold f_X5_here f_X5_here_28 tC
  rw [v_gi hc (k := 2) rfl, p_bs, v_gi hc (k := 1) rfl, p_bs]
  by_cases c : at' < n
  · have L1 : uLdI U tp 1 (iI (at' : Int)) = some (f at') := u_ldI e1 (by omega) (by omega) (by omega)
    rw [n_le (by omega) (by omega) (by omega) (by omega) (by omega), v_gr hc (k := 0) rfl, p_bs, p_bs, p_bs, L1, p_bs, (e2 at' (by omega)).2.1, if_pos c]
  · rw [p_le (by omega) (by omega) (by omega) (by omega) (by omega), if_neg c]
    rfl
theorem cTp.set {e : uE} {fs : List Value} {c : Nat} (ht : cTp U tp T) (hc : U.2.2 rd = some (.inr (c, fs))) : cTp (uSet U rd e) tp T := by
  obtain ⟨f, e1, e2⟩ := ht
  exact ⟨f, (u_sn (u_nlr e1 hc)).trans e1, e2⟩
theorem c_nx0 {c0 : List Value} {st : Nat} {va : Int32} {kv wv : Value} {sg : Int32} (h0 : U.2.2 rd = some (.inr (4, c0))) (ht : cTp U tp T) (hb : b ≤ rd) (hn : n ≤ 500) : ∀ (d at' m : Nat), at' + d ≤ 500 → (∀ k, at' ≤ k → k < at' + d → tC T n k = 32) → f_X5_next_0 N b g rd (m + d) (uSet U rd (rdC tp n at' st va kv wv sg)) = f_X5_next_0 N b g rd m (uSet U rd (rdC tp n (at' + d) st va kv wv sg)) := by
  intro d
  induction d with
  | zero => intro at' m _ _; rfl
  | succ d ih =>
    intro at' m h1 h2
    have hc : (uSet U rd (rdC tp n at' st va kv wv sg)).2.2 rd = some (.inr (4, [.ref tp, .int (iI n), .int (iI at'), .int (iI st), .int va, kv, wv, .int sg])) := u_ss
    have ei : iI (at' : Int) + 1 = iI ((at' + 1 : Nat) : Int) := by
      rw [j1, i_add]
      rfl
    have pw : uPut b (uSet U rd (rdC tp n at' st va kv wv sg)) rd 4 2 (.int (iI ((at' + 1 : Nat) : Int))) = some (uSet U rd (rdC tp n (at' + 1) st va kv wv sg)) := by
      rw [u_pw hc hb (Nat.le_of_ble_eq_true rfl), u_s2]
      rfl
    rw [show m + (d + 1) = (m + d) + 1 by omega, f_X5_next_0, if_pos (v_is hc), c_here hc (ht.set h0) hn (by omega), q_uc, h2 at' (by omega) (by omega), if_pos (show iI 32 = 32 from rfl), v_gi hc (k := 2) rfl, p_bs, ei, pw, p_bs, ih (at' + 1) m (by omega) (fun k k1 k2 => h2 k (by omega) (by omega)), show at' + 1 + d = at' + (d + 1) by omega]
theorem c_wd0 {c0 : List Value} {st : Nat} {va : Int32} {kv wv : Value} {sg : Int32} (h0 : U.2.2 rd = some (.inr (4, c0))) (ht : cTp U tp T) (hb : b ≤ rd) (hn : n ≤ 500) : ∀ (d at' m : Nat), at' + d ≤ 500 → (∀ k, at' ≤ k → k < at' + d → 97 ≤ tC T n k ∧ tC T n k ≤ 122) → f_X5_nextWord_0 N b g rd (m + d) (uSet U rd (rdC tp n at' st va kv wv sg)) = f_X5_nextWord_0 N b g rd m (uSet U rd (rdC tp n (at' + d) st va kv wv sg)) := by
  intro d
  induction d with
  | zero => intro at' m _ _; rfl
  | succ d ih =>
    intro at' m h1 h2
    have hc : (uSet U rd (rdC tp n at' st va kv wv sg)).2.2 rd = some (.inr (4, [.ref tp, .int (iI n), .int (iI at'), .int (iI st), .int va, kv, wv, .int sg])) := u_ss
    have hl := h2 at' (by omega) (by omega)
    have ei : iI (at' : Int) + 1 = iI ((at' + 1 : Nat) : Int) := by
      rw [j1, i_add]
      rfl
    have pw : uPut b (uSet U rd (rdC tp n at' st va kv wv sg)) rd 4 2 (.int (iI ((at' + 1 : Nat) : Int))) = some (uSet U rd (rdC tp n (at' + 1) st va kv wv sg)) := by
      rw [u_pw hc hb (Nat.le_of_ble_eq_true rfl), u_s2]
      rfl
    rw [show m + (d + 1) = (m + d) + 1 by omega, f_X5_nextWord_0, if_pos (v_is hc), c_here hc (ht.set h0) hn (by omega), q_uc, (c_letter (by omega)).1 hl, q_uc, if_neg n10, v_gi hc (k := 2) rfl, p_bs, ei, pw, p_bs, ih (at' + 1) m (by omega) (fun k k1 k2 => h2 k (by omega) (by omega)), show at' + 1 + d = at' + (d + 1) by omega]
theorem c_wh0 {c0 : List Value} {st : Nat} {va : Int32} {kv wv : Value} {sg : Int32} (h0 : U.2.2 rd = some (.inr (4, c0))) (ht : cTp U tp T) (hb : b ≤ rd) (hn : n ≤ 500) : ∀ (d at' m : Nat), at' + d ≤ 500 → (∀ k, at' ≤ k → k < at' + d → 48 ≤ tC T n k ∧ tC T n k ≤ 57) → f_X5_nextWhole_0 N b g rd (m + d) (uSet U rd (rdC tp n at' st va kv wv sg)) = f_X5_nextWhole_0 N b g rd m (uSet U rd (rdC tp n (at' + d) st va kv wv sg)) := by
  intro d
  induction d with
  | zero => intro at' m _ _; rfl
  | succ d ih =>
    intro at' m h1 h2
    have hc : (uSet U rd (rdC tp n at' st va kv wv sg)).2.2 rd = some (.inr (4, [.ref tp, .int (iI n), .int (iI at'), .int (iI st), .int va, kv, wv, .int sg])) := u_ss
    have hl := h2 at' (by omega) (by omega)
    have ei : iI (at' : Int) + 1 = iI ((at' + 1 : Nat) : Int) := by
      rw [j1, i_add]
      rfl
    have pw : uPut b (uSet U rd (rdC tp n at' st va kv wv sg)) rd 4 2 (.int (iI ((at' + 1 : Nat) : Int))) = some (uSet U rd (rdC tp n (at' + 1) st va kv wv sg)) := by
      rw [u_pw hc hb (Nat.le_of_ble_eq_true rfl), u_s2]
      rfl
    rw [show m + (d + 1) = (m + d) + 1 by omega, f_X5_nextWhole_0, if_pos (v_is hc), c_here hc (ht.set h0) hn (by omega), q_uc, (c_digit (by omega)).1 hl, q_uc, if_neg n10, v_gi hc (k := 2) rfl, p_bs, ei, pw, p_bs, ih (at' + 1) m (by omega) (fun k k1 k2 => h2 k (by omega) (by omega)), show at' + 1 + d = at' + (d + 1) by omega]
/-- the number -/
theorem c_wh47 {c0 : List Value} {st j k3 : Nat} {kv wv : Value} {sg : Int32} (h0 : U.2.2 rd = some (.inr (4, c0))) (ht : cTp U tp T) (hb : b ≤ rd) (hj : j ≤ 500) (hl : ∀ k, st ≤ k → k < j → 48 ≤ T k ∧ T k ≤ 57) (h4 : j ≤ st + 4) (hg : g.1 3 = some k3) : ∀ (m d : Nat), st + d ≤ j → j < st + d + m → f_X5_nextWhole_47 N b g rd m (uSet U rd (rdC tp n j st (iI ((nV T st d : Nat) : Int)) kv wv sg)) (iI ((st + d : Nat) : Int)) = some (uSet U rd (rdC tp n j st (iI ((nV T st (j - st) : Nat) : Int)) (.ref k3) wv sg)) := by
  intro m
  induction m with
  | zero => intro d h1 h2; omega
  | succ m ih =>
    intro d h1 h2
    have hc : (uSet U rd (rdC tp n j st (iI ((nV T st d : Nat) : Int)) kv wv sg)).2.2 rd = some (.inr (4, [.ref tp, .int (iI n), .int (iI j), .int (iI st), .int (iI ((nV T st d : Nat) : Int)), kv, wv, .int sg])) := u_ss
    rw [f_X5_nextWhole_47, v_gi hc (k := 2) rfl, p_bs]
    by_cases e : st + d = j
    · have ed : j - st = d := by omega
      rw [p_le (by omega) (by omega) (by omega) (by omega) (by omega), hg, p_let, show uPut b (uSet U rd (rdC tp n j st (iI ((nV T st d : Nat) : Int)) kv wv sg)) rd 4 5 (va_rf (some k3)) = some (uSet U rd (rdC tp n j st (iI ((nV T st d : Nat) : Int)) (.ref k3) wv sg)) by
        rw [u_pw hc hb (Nat.le_of_ble_eq_true rfl), u_s2]
        rfl, p_bs, ed]
    · obtain ⟨f, e1, e2⟩ := ht.set (e := rdC tp n j st (iI ((nV T st d : Nat) : Int)) kv wv sg) h0
      have tk := hl (st + d) (by omega) (by omega)
      have L1 : uLdI (uSet U rd (rdC tp n j st (iI ((nV T st d : Nat) : Int)) kv wv sg)) tp 1 (iI ((st + d : Nat) : Int)) = some (iI ((T (st + d) : Nat) : Int)) := by
        rw [← (e2 (st + d) (by omega)).2.2 (by omega)]
        exact u_ldI e1 (by omega) (by omega) (by omega)
      have e7 : ((10 : Int32) * iI ((nV T st d : Nat) : Int) + iI ((T (st + d) : Nat) : Int)) - 48 = iI ((nV T st (d + 1) : Nat) : Int) := by
        rw [show (10 : Int32) = iI 10 from rfl, i_mul, i_add, show (48 : Int32) = iI 48 from rfl, i_sub]
        congr 1
        show _ = ((10 * nV T st d + (T (st + d) - 48) : Nat) : Int)
        omega
      have ei : iI ((st + d : Nat) : Int) + 1 = iI ((st + (d + 1) : Nat) : Int) := by
        rw [j1, i_add]
        rfl
      rw [n_le (by omega) (by omega) (by omega) (by omega) (by omega), v_gi hc (k := 4) rfl, p_bs, v_gr hc (k := 0) rfl, p_bs, p_bs, L1, p_bs, e7, show uPut b (uSet U rd (rdC tp n j st (iI ((nV T st d : Nat) : Int)) kv wv sg)) rd 4 4 (.int (iI ((nV T st (d + 1) : Nat) : Int))) = some (uSet U rd (rdC tp n j st (iI ((nV T st (d + 1) : Nat) : Int)) kv wv sg)) by
        rw [u_pw hc hb (Nat.le_of_ble_eq_true rfl), u_s2]
        rfl, p_bs, ei, p_let]
      exact ih (d + 1) (by omega) (by omega)
/-- the word -/
theorem c_wd51 {st j k2 sb sv : Nat} {va : Int32} {kv wv : Value} {sg : Int32} (hb : b ≤ rd) (hbs : b ≤ sb) (hbv : b ≤ sv) (hj : j ≤ 500) (hl : ∀ k, st ≤ k → k < j → 97 ≤ T k ∧ T k ≤ 122) (h4 : j ≤ st + 8) (hg : g.1 2 = some k2) : ∀ (m k : Nat) (u : UH) (f : Nat → Int32), st ≤ k → k ≤ j → j < k + m → u.2.2 rd = some (rdC tp n j st va kv wv sg) → cTp u tp T → vSb u sb sv (k - st) f → (∀ i, i < k - st → f i = iI ((T (st + i) : Nat) : Int)) → uOld u → b ≤ u.1 → lo ≤ u.1 → rd ≠ sb → rd ≠ sv → tp ≠ sv → ∃ (U' : UH) (f' : Nat → Int32), f_X5_nextWord_51 N b g rd m u (some sb) (iI k) = some U' ∧ U'.2.2 rd = some (rdC tp n j st va (.ref k2) (.ref u.1) sg) ∧ vSt lo U' u.1 (j - st) f' ∧ (∀ i, i < j - st → f' i = iI ((T (st + i) : Nat) : Int)) ∧ (∀ x, x < u.1 → x ≠ rd → x ≠ sb → x ≠ sv → U'.2.2 x = u.2.2 x) ∧ uOld U' ∧ U'.1 = u.1 + 2 ∧ U'.2.1 = u.2.1 + (4 + (j - st)) := by
  intro m
  induction m with
  | zero => intro k u f h1 h2 h3; omega
  | succ m ih =>
    intro k u f h1 h2 h3 hc ht hs hf ho hbu hlu n1 n2 n3
    have hc' : u.2.2 rd = some (.inr (4, [.ref tp, .int (iI n), .int (iI j), .int (iI st), .int va, kv, wv, .int sg])) := hc
    obtain ⟨q, s1, s2⟩ := id hs
    rw [f_X5_nextWord_51, v_gi hc' (k := 2) rfl, p_bs]
    by_cases e : k = j
    · subst e
      obtain ⟨u2, f', a1, a2, a3, a4, a5, a6, a7⟩ := c_sbs (N := N) (lo := lo) (g := g) hs hbu hlu ho (by omega) (fun i hi => ⟨T (st + i), hf i hi, by
        have := hl (st + i) (by omega) (by omega)
        omega⟩)
      have lr := ho _ _ hc
      have hc2 : u2.2.2 rd = some (.inr (4, [.ref tp, .int (iI n), .int (iI k), .int (iI st), .int va, kv, wv, .int sg])) := (a4 rd lr).trans hc'
      obtain ⟨u3, b1, b2, b3, b4, b5, b6⟩ := w_put (b := b) (k := 6) (v := va_rf (some u.1)) hc2 hb (Nat.le_of_ble_eq_true rfl) a5
      obtain ⟨u4, d1, d2, d3, d4, d5, d6⟩ := w_put (b := b) (k := 5) (v := va_rf (some k2)) b2 hb (Nat.le_of_ble_eq_true rfl) b4
      have nr : ∀ {x : Nat}, x ≠ rd → u4.2.2 x = u2.2.2 x := fun hx => (d3 _ hx).trans (b3 _ hx)
      refine ⟨u4, f', ?_, d2, ?_, fun i hi => (a3 i hi).trans (hf i hi), fun x x1 x2 _ _ => (nr x2).trans (a4 x x1), d4, by omega, by omega⟩
      · unfold f_X5_nextWord_82
        rw [p_le (by omega) (by omega) (by omega) (by omega) (by omega), p_bs, if_pos (v_is s1), a1, q_uc, p_bs, b1, p_bs, hg, p_let, d1, p_bs]
      · obtain ⟨v, hh, z, y1, y2, y3⟩ := a2
        have v1 : v ≠ rd := u_nlr y2 hc2
        exact ⟨v, hh, z, (nr (by omega)).trans y1, (nr v1).trans y2, y3⟩
    · obtain ⟨ft, t1, t2⟩ := id ht
      have tk := hl k (by omega) (by omega)
      have L1 : uLdI u tp 1 (iI (k : Int)) = some (iI ((T k : Nat) : Int)) := by
        rw [← (t2 k (by omega)).2.2 (by omega)]
        exact u_ldI t1 (by omega) (by omega) (by omega)
      obtain ⟨-, -, tc, -⟩ := t_cha ⟨T k, by omega⟩
      have tc : ((iI ((T k : Nat) : Int)).toUInt32 % 65536).toInt32 = iI ((T k : Nat) : Int) := tc
      obtain ⟨u2, a1, a2, a3, a4, a5, a6⟩ := c_sba (N := N) (g := g) (c := T k) hs hbs hbv ho (by omega) (by omega)
      have n4 : tp ≠ sb := u_nlr t1 s1
      have ek : iI (k : Int) + 1 = iI ((k + 1 : Nat) : Int) := by
        rw [j1, i_add]
        rfl
      have e1 : k - st + 1 = k + 1 - st := by omega
      rw [e1] at a2
      obtain ⟨U', f', w1, w2, w3, w4, w5, w6, w7, w8⟩ := ih (k + 1) u2 (upd f (k - st) (iI ((T k : Nat) : Int))) (by omega) (by omega) (by omega) ((a3 rd n1 n2).trans hc) ⟨ft, (a3 tp n4 n3).trans t1, t2⟩ a2 (fun i hi => by
        by_cases c : i = k - st
        · subst c
          rw [upd_s]
          congr 3
          omega
        · rw [upd_n c]
          exact hf i (by omega)) a4 (by omega) (by omega) n1 n2 n3
      rw [a5] at w2 w3 w7
      refine ⟨U', f', ?_, w2, w3, w4, fun x x1 x2 x3 x4 => (w5 x (by omega) x2 x3 x4).trans (a3 x x3 x4), w6, w7, by omega⟩
      rw [n_le (by omega) (by omega) (by omega) (by omega) (by omega), v_gr hc' (k := 0) rfl, p_bs, p_bs, L1, p_bs, p_bs, if_pos (v_is s1), tc, a1, q_uc]
      unfold f_X5_nextWord_70
      rw [ek, p_let]
      exact w1
end I5s
def sgn (c : Nat) : Prop := c = 59 ∨ c = 44 ∨ c = 45 ∨ c = 40 ∨ c = 41
section I6s
variable {N b : Nat} {g : uEnv} {U : UH}
theorem c_ix7 {v : Nat} {f : Nat → Int32} {y : Int32} (h : U.2.2 v = some (.inl (1, 5, .inl f))) : ∀ (m k : Nat), k ≤ 5 → 5 < k + m → ((∃ j, k ≤ j ∧ j < 5 ∧ f j = y) → ∃ r : Nat, r < 5 ∧ f_J11_indexOfChar_7 N b g m U (some v) (iI ((5 : Nat) : Int)) y (iI k) = some (iI r, U)) ∧ (¬ (∃ j, k ≤ j ∧ j < 5 ∧ f j = y) → f_J11_indexOfChar_7 N b g m U (some v) (iI ((5 : Nat) : Int)) y (iI k) = some (-1, U)) := by
  intro m
  induction m with
  | zero => intro k h1 h2; omega
  | succ m ih =>
    intro k h1 h2
    rw [f_J11_indexOfChar_7]
    by_cases hk : k = 5
    · subst hk
      rw [p_le (by omega) (by omega) (by omega) (by omega) (by omega)]
      exact ⟨fun ⟨j, j1, j2, _⟩ => by omega, fun _ => rfl⟩
    · have L1 : uLdI U v 1 (iI (k : Int)) = some (f k) := u_ldI h (by omega) (by omega) (by omega)
      have ek : iI (k : Int) + 1 = iI ((k + 1 : Nat) : Int) := by
        rw [j1, i_add]
        rfl
      rw [n_le (by omega) (by omega) (by omega) (by omega) (by omega), p_bs, L1, p_bs]
      by_cases c : f k = y
      · rw [if_pos c]
        exact ⟨fun _ => ⟨k, by omega, rfl⟩, fun z => absurd ⟨k, Nat.le_refl _, by omega, c⟩ z⟩
      · rw [if_neg c, ek, p_let]
        obtain ⟨i1, i2⟩ := ih (k + 1) (by omega) (by omega)
        constructor
        · rintro ⟨j, q1, q2, q3⟩
          refine i1 ⟨j, ?_, q2, q3⟩
          by_cases e : j = k
          · rw [e] at q3
            exact absurd q3 c
          · omega
        · intro z
          exact i2 (fun ⟨j, q1, q2, q3⟩ => z ⟨j, by omega, q2, q3⟩)
theorem t_sgn : ∀ c : Fin 256, ((∃ j : Fin 5, (pTx 0).getD j.1 0 = (iI (c.1 : Int)).toInt8.toInt32) → (c.1 = 59 ∨ c.1 = 44 ∨ c.1 = 45 ∨ c.1 = 40 ∨ c.1 = 41)) ∧ ((c.1 = 59 ∨ c.1 = 44 ∨ c.1 = 45 ∨ c.1 = 40 ∨ c.1 = 41) → ∃ j : Fin 5, (pTx 0).getD j.1 0 = (iI (c.1 : Int)).toInt8.toInt32) := by decide +kernel
theorem c_index (hE : tEn b g U) {c : Nat} (hc : c < 256) (hN : 100 ≤ N) : (sgn c → ∃ r : Nat, r < 5 ∧ f_J6_indexOf N b g U (g.2.1 0) (iI c) = some (iI r, U)) ∧ (¬ sgn c → f_J6_indexOf N b g U (g.2.1 0) (iI c) = some (-1, U)) := by
  obtain ⟨v, hh, f, e1, e2, e3⟩ := hE.lit (j := 0) (by decide)
  have l5 : (pTx 0).length = 5 := by decide +kernel
  rw [l5] at e2 e3
  obtain ⟨i1, i2⟩ := c_ix7 (N := N) (b := b) (g := g) (y := (iI (c : Int)).toInt8.toInt32) e2 N 0 (by omega) (by omega)
  have i1 : (∃ j, 0 ≤ j ∧ j < 5 ∧ f j = (iI (c : Int)).toInt8.toInt32) → ∃ r : Nat, r < 5 ∧ f_J11_indexOfChar_7 N b g N U (some v) (iI ((5 : Nat) : Int)) ((iI (c : Int)).toInt8.toInt32) 0 = some (iI r, U) := i1
  have i2 : ¬ (∃ j, 0 ≤ j ∧ j < 5 ∧ f j = (iI (c : Int)).toInt8.toInt32) → f_J11_indexOfChar_7 N b g N U (some v) (iI ((5 : Nat) : Int)) ((iI (c : Int)).toInt8.toInt32) 0 = some (-1, U) := i2
  have ce : f_J11_canEncode_2 N b g U (iI c) = some (1, U) := by
    unfold f_J11_canEncode_2 f_J11_canEncode_2_15 f_J11_canEncode_2_16
    rw [j0, n_lt (by omega) (by omega) (by omega) (by omega) (by omega), show (255 : Int32) = iI 255 from rfl, n_lt (by omega) (by omega) (by omega) (by omega) (by omega)]
    rfl
  have mx : f_J9_max N b g U 0 0 = some (0, U) := by
    unfold f_J9_max f_J9_max_10
    rw [if_neg (by decide)]
  have mn : f_J9_min N b g U (iI ((5 : Nat) : Int)) (iI ((5 : Nat) : Int)) = some (iI ((5 : Nat) : Int), U) := by
    unfold f_J9_min f_J9_min_10
    rw [n_lt (by omega) (by omega) (by omega) (by omega) (by omega)]
  have ln : f_J6_length N b g U (g.2.1 0) = some (iI ((5 : Nat) : Int), U) := c_slen ⟨v, hh, 0, e1, e2⟩
  have ev : f_J6_indexOf N b g U (g.2.1 0) (iI c) = ucall (ucall (ucall (f_J11_indexOfChar_7 N b g N U (some v) (iI ((5 : Nat) : Int)) ((iI (c : Int)).toInt8.toInt32) 0) (fun r16 u14 => some (r16, u14))) (fun r18 u16 => some (r18, u16))) (fun r4 u2 => some (r4, u2)) := by
    unfold f_J6_indexOf f_J6_indexOf_2 f_J6_indexOf_2_36 f_J11_indexOf f_J11_indexOfChar
    rw [if_pos (v_is e1), if_pos (v_is e1), c_lat e1, q_uc, if_neg n10, v_gr e1 (k := 0) rfl, p_bs, if_pos (v_is e1), ln, q_uc, ce, q_uc, if_neg n10, mx, q_uc, p_bs, u_len e2, p_bs, mn, q_uc, if_pos (show (0 : Int32) < iI ((5 : Nat) : Int) by decide), p_let]
  obtain ⟨t1, t2⟩ := t_sgn ⟨c, hc⟩
  constructor
  · intro hs
    obtain ⟨j, hj⟩ := t2 hs
    obtain ⟨r, r1, r2⟩ := i1 ⟨j.1, Nat.zero_le _, j.2, (e3 j.1 j.2).trans hj⟩
    refine ⟨r, r1, ?_⟩
    rw [ev, r2, q_uc, q_uc, q_uc]
  · intro hs
    rw [ev, i2 (fun ⟨j, _, q2, q3⟩ => hs (t1 ⟨⟨j, q2⟩, (e3 j q2).symm.trans q3⟩)), q_uc, q_uc, q_uc]
end I6s
