/-! PLAIN: the class's doubts and map in the heap -/
/-- a doubt: number e, weights f, known kn -/
def vDb (u : UH) (a wa e : Nat) (f : Nat → Nat) (kn : Int) : Prop := u.2.2 a = some (.inr (13, [.int (iI e), .ref wa, .int (iI kn)])) ∧ ∃ wf : Nat → Int32, u.2.2 wa = some (.inl (0, 8, .inl wf)) ∧ ∀ g, g < 8 → wf g = iI (f g) ∧ f g ≤ 9
theorem c_kind4 {N b : Nat} {g : uEnv} {u : UH} {a wa e : Nat} {f : Nat → Nat} {kn : Int} (hD : vDb u a wa e f kn) : ∀ (m q k : Nat), q ≤ 8 → 8 < q + m → k + zCn f q < zCn f 8 → f_X15_kind_4 N b g a m u (iI k) (iI q) = some (iI (zKg f (8 - q) q k), u) := by
  obtain ⟨d1, wf, d2, d3⟩ := hD
  intro m
  induction m with
  | zero => intro q k h1 h2; omega
  | succ m ih =>
    intro q k h1 h2 h3
    rw [f_X15_kind_4]
    unfold f_X15_kind_28
    have hq : q ≠ 8 := fun z => by rw [z] at h3; omega
    obtain ⟨w1, w2⟩ := d3 q (by omega)
    have eq : iI (q : Int) + 1 = iI ((q + 1 : Nat) : Int) := by
      rw [j1, i_add]
      rfl
    have L : uLdI u wa 0 (iI (q : Int)) = some (iI (f q)) := by
      rw [u_ldI d2 (by omega) (by omega) (by omega)]
      exact congrArg some w1
    have cb : zCn f 8 ≤ 8 := by
      have := zSum_b (X := zInd f) (M := 1) 8 (fun d _ => by unfold zInd; split <;> omega)
      exact this
    rw [j8, n_le (by omega) (by omega) (by omega) (by omega) (by omega), v_gr d1 (k := 1) rfl, p_bs, p_bs, L, p_bs, show 8 - q = (8 - (q + 1)) + 1 from by omega, zKg]
    by_cases h0 : f q = 0
    · have e2 : zCn f (q + 1) = zCn f q := by rw [zCn_s, if_pos h0]; rfl
      rw [if_pos (show iI (f q : Int) ≤ 0 by rw [h0]; decide), if_pos h0, p_let, eq]
      exact ih (q + 1) k (by omega) (by omega) (by omega)
    · have e2 : zCn f (q + 1) = zCn f q + 1 := by rw [zCn_s, if_neg h0]
      rw [if_neg (show ¬ iI (f q : Int) ≤ 0 by rw [j0, j_le (by omega) (by omega) (by omega) (by omega)]; omega), if_neg h0, p_let]
      by_cases hk : k = 0
      · subst hk
        rw [if_pos (show iI ((0 : Nat) : Int) = 0 from rfl), if_pos rfl]
      · have ek : iI (k : Int) + (-1) = iI ((k - 1 : Nat) : Int) := by
          rw [j_m1, i_add]
          congr 1
          omega
        rw [if_neg (show ¬ iI (k : Int) = 0 by rw [j0, j_eq (by omega) (by omega) (by omega) (by omega)]; omega), if_neg hk, p_let, eq, ek]
        exact ih (q + 1) (k - 1) (by omega) (by omega) (by omega)
theorem c_kind {N b : Nat} {g : uEnv} {u : UH} {a wa e k : Nat} {f : Nat → Nat} {kn : Int} (hD : vDb u a wa e f kn) (hk : k < zCn f 8) (hN : 9 ≤ N) : f_X15_kind N b g u a (iI k) = some (iI (zKd f k), u) := by
  unfold f_X15_kind
  have h := c_kind4 (N := N) (b := b) (g := g) hD N 0 k (by omega) (by omega) (by rw [show zCn f 0 = 0 from rfl]; omega)
  exact h
theorem c_all13 {N b : Nat} {g : uEnv} {u : UH} {a0 a wa e : Nat} {f : Nat → Nat} {kn : Int} (hD : vDb u a wa e f kn) : ∀ (m q : Nat), q ≤ 8 → 8 < q + m → f_X15_all_13 N b g a0 m u (iI (zSum f q)) (some wa) (iI 8) (iI q) = some (iI (zSum f 8), u) := by
  obtain ⟨d1, wf, d2, d3⟩ := hD
  intro m
  induction m with
  | zero => intro q h1 h2; omega
  | succ m ih =>
    intro q h1 h2
    rw [f_X15_all_13]
    by_cases hq : q = 8
    · subst hq
      rw [p_le (by omega) (by omega) (by omega) (by omega) (by omega)]
    · obtain ⟨w1, w2⟩ := d3 q (by omega)
      have eq : iI (q : Int) + 1 = iI ((q + 1 : Nat) : Int) := by
        rw [j1, i_add]
        rfl
      have L : uLdI u wa 0 (iI (q : Int)) = some (iI (f q)) := by
        rw [u_ldI d2 (by omega) (by omega) (by omega)]
        exact congrArg some w1
      rw [n_le (by omega) (by omega) (by omega) (by omega) (by omega), p_bs, L, p_bs, i_add, p_let, p_let, eq]
      exact ih (q + 1) (by omega) (by omega)
theorem c_all {N b : Nat} {g : uEnv} {u : UH} {a wa e : Nat} {f : Nat → Nat} {kn : Int} (hD : vDb u a wa e f kn) (hN : 9 ≤ N) : f_X15_all N b g u a = some (iI (zSum f 8), u) := by
  have h := c_all13 (N := N) (b := b) (g := g) (a0 := a) hD N 0 (by omega) (by omega)
  obtain ⟨d1, wf, d2, d3⟩ := hD
  unfold f_X15_all
  rw [v_gr d1 (k := 1) rfl, p_bs, p_bs, u_len d2, p_bs]
  exact h
theorem zSum_k {f : Nat → Nat} : ∀ g, g ≤ 8 → zSum (fun k => f (zKd f k)) (zCn f g) = zSum f g := by
  intro g
  induction g with
  | zero => intro _; rfl
  | succ g ih =>
    intro h
    have i1 := ih (by omega)
    by_cases h0 : f g = 0
    · rw [show zCn f (g + 1) = zCn f g from by rw [zCn_s, if_pos h0]; rfl, i1]
      simp only [zSum]
      omega
    · rw [show zCn f (g + 1) = zCn f g + 1 from by rw [zCn_s, if_neg h0]]
      simp only [zSum]
      rw [i1, zKd_at h0 (by omega)]
theorem t_setF : ∀ cd : Fin 1024, ∀ e : Fin 5, ∀ k : Fin 3, zD cd.1 e.1 = 0 → ((iI (cd.1 : Int)) &&& (((3 : Int32) <<< ((2 * iI (e.1 : Int)) &&& 31)) ^^^ (-1))) ||| ((iI (k.1 : Int) + 1) <<< ((2 * iI (e.1 : Int)) &&& 31)) = iI ((cd.1 + (k.1 + 1) * 4 ^ e.1 : Nat) : Int) := by decide +kernel
/-- a map in the heap: la: 0 the map, 1 heights, 2 grounds, 3 doubts by cell, 4 the list of doubts, 5 its array, 6 the ways; da, wa: the doubts, their weights -/
def vLd (u : UH) (g : uEnv) (la da wa : Nat → Nat) (bk : Nat) (v8 v9 v10 : Value) (w h n nd : Nat) (hts : Nat → Int) (fl : Nat → Nat) (dO kn : Nat → Int) (wg : Nat → Nat → Nat) : Prop := u.2.2 (la 0) = some (.inr (12, [.ref bk, .int (iI w), .int (iI h), .ref (la 1), .ref (la 2), .ref (la 3), .ref (la 4), .ref (la 6), v8, v9, v10])) ∧ (1 ≤ w ∧ w ≤ 10) ∧ (1 ≤ h ∧ h ≤ 10) ∧ n = w * h ∧ nd ≤ 5 ∧ (∃ hf : Nat → Int32, u.2.2 (la 1) = some (.inl (0, n, .inl hf)) ∧ ∀ k, k < n → hf k = iI (hts k) ∧ 0 ≤ hts k ∧ hts k ≤ 999) ∧ (∃ gf : Nat → Int32, u.2.2 (la 2) = some (.inl (0, n, .inl gf)) ∧ ∀ k, k < n → gf k = iI (fl k)) ∧ (∃ df : Nat → Option Nat, u.2.2 (la 3) = some (.inl (6, n, .inr (.inr (.inr (.inr df))))) ∧ ∀ c, c < n → -1 ≤ dO c ∧ dO c < nd ∧ (dO c = -1 → df c = none) ∧ (dO c ≠ -1 → df c = some (da (dO c).toNat))) ∧ (∃ (m : Nat) (mc : Int32) (xs : Nat → Option Nat), vLs u (la 4) (la 5) nd m mc xs ∧ ∀ e, e < nd → xs e = some (da e)) ∧ (∃ (yf : Nat → Option Nat) (wr : Nat → Nat), u.2.2 (la 6) = some (.inl (5, 4, .inr (.inr (.inr (.inr yf))))) ∧ ∀ y, y < 4 → yf y = some (wr y) ∧ uWay g (wr y) = some y) ∧ ∀ e, e < nd → vDb u (da e) (wa e) e (wg e) (kn e) ∧ 1 ≤ zCn (wg e) 8 ∧ zCn (wg e) 8 ≤ 3
/-- the solver's object -/
def vSo (u : UH) (so lm : Nat) (go n : Nat) (jd : Value) (sa : Nat → Nat) : Prop := u.2.2 so = some (.inr (1, [.ref lm, .int (iI go), .int (iI n), jd, .ref (sa 4), .ref (sa 5), .ref (sa 6), .ref (sa 7), .ref (sa 8)]))
theorem c_get {N b : Nat} {g : uEnv} {u : UH} {la da wa : Nat → Nat} {bk : Nat} {v8 v9 v10 : Value} {w h n nd e : Nat} {hts : Nat → Int} {fl : Nat → Nat} {dO kn : Nat → Int} {wg : Nat → Nat → Nat} (hL : vLd u g la da wa bk v8 v9 v10 w h n nd hts fl dO kn wg) (he : e < nd) : f_J2_get N b g u (la 4) (iI e) = some (some (da e), u) := by
  obtain ⟨-, -, -, -, -, -, -, -, ⟨m, mc, xs, l1, l2⟩, -⟩ := hL
  rw [l_get l1 (by omega) (by omega)]
  exact congrArg (fun z => some (z, u)) (l2 e he)
theorem c_siz {N b : Nat} {g : uEnv} {u : UH} {la da wa : Nat → Nat} {bk : Nat} {v8 v9 v10 : Value} {w h n nd : Nat} {hts : Nat → Int} {fl : Nat → Nat} {dO kn : Nat → Int} {wg : Nat → Nat → Nat} (hL : vLd u g la da wa bk v8 v9 v10 w h n nd hts fl dO kn wg) : f_J2_size N b g u (la 4) = some (iI nd, u) ∧ uIs u (la 4) 18 = true := by
  obtain ⟨-, -, -, -, -, -, -, -, ⟨m, mc, xs, l1, l2⟩, -⟩ := hL
  exact ⟨l_size l1, v_is l1.1⟩
/-- the code behind a ground of a doubt that was not known -/
theorem c_know19 {N b : Nat} {g : uEnv} {u : UH} {so a wa e cd k : Nat} {f : Nat → Nat} {kn : Int} (hD : vDb u a wa e f kn) (hcd : cd < 1024) (he : e < 5) (hk : k < zCn f 8) (h3 : zCn f 8 ≤ 3) (h0 : zD cd e = 0) (hN : 9 ≤ N) : ∀ (m i : Nat), i ≤ k → k < i + m → f_X2_knows_19 N b g so m u (iI cd) (iI e) (iI (zKd f k)) (some a) (iI i) = some (iI ((cd + (k + 1) * 4 ^ e : Nat) : Int), u) := by
  have d1 := hD.1
  obtain ⟨q, q1, q2, q3⟩ := zCn_in 8 hk
  have ek : zKd f k = q := by rw [← q3]; exact zKd_at q2 q1
  intro m
  induction m with
  | zero => intro i h1 h2; omega
  | succ m ih =>
    intro i h1 h2
    rw [f_X2_knows_19, p_bs, if_pos (v_is d1), c_kind hD (by omega) hN, q_uc]
    have ki := zKd_ok (f := f) (k := i) (by omega)
    by_cases hi : i = k
    · rw [hi, if_pos rfl, t_setF ⟨cd, hcd⟩ ⟨e, he⟩ ⟨k, by omega⟩ h0]
    · obtain ⟨p, p1, p2, p3⟩ := zCn_in (f := f) (k := i) 8 (by omega)
      have ei : zKd f i = p := by rw [← p3]; exact zKd_at p2 p1
      have hne : p ≠ q := fun z => hi (by rw [← p3, ← q3, z])
      have en : iI (i : Int) + 1 = iI ((i + 1 : Nat) : Int) := by
        rw [j1, i_add]
        rfl
      rw [ei, ek, n_eq (by omega) (by omega) (by omega) (by omega) (by omega), p_let, en, ← ek]
      exact ih (i + 1) (by omega) (by omega)
theorem c_knows {N b : Nat} {g : uEnv} {u : UH} {la da wa sa : Nat → Nat} {bk so go : Nat} {jd v8 v9 v10 : Value} {w h n nd e cd k : Nat} {hts : Nat → Int} {fl : Nat → Nat} {dO kn : Nat → Int} {wg : Nat → Nat → Nat} (hO : vSo u so (la 0) go n jd sa) (hL : vLd u g la da wa bk v8 v9 v10 w h n nd hts fl dO kn wg) (he : e < nd) (hcd : cd < 1024) (hk : k < zCn (wg e) 8) (h0 : zD cd e = 0) (hN : 9 ≤ N) : f_X2_knows N b g u so (iI cd) (iI e) (iI (zKd (wg e) k)) = some (iI ((cd + (k + 1) * 4 ^ e : Nat) : Int), u) := by
  have gt := c_get (N := N) (b := b) hL he
  have sz := c_siz (N := N) (b := b) hL
  obtain ⟨l0, -, -, -, hnd, -, -, -, -, -, hd⟩ := hL
  obtain ⟨d1, d2, d3⟩ := hd e he
  unfold f_X2_knows
  rw [v_gr hO (k := 0) rfl, p_bs, p_bs, v_gr l0 (k := 6) rfl, p_bs, p_bs, if_pos sz.2, gt, q_uc, p_bs, if_pos (v_is d1.1)]
  exact c_know19 d1 hcd (by omega) hk d3 h0 hN N 0 (by omega) (by omega)
