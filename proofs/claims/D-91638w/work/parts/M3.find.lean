/-! PLAIN: a name is looked for, of both -/
def nmM (σ : MS) (j1 j2 m d : Nat) : Prop := σ.2.1 j2 d = iI m ∧ ∀ k, k < m → σ.2.1 j1 (8 * d + k) = σ.2.1 11 k
def bNm (lo : Nat) (U : UH) (r2 r1 : Nat → Int32) (d a : Nat) : Prop := lo ≤ a ∧ ∃ (m : Nat) (f : Nat → Int32), vSt lo U a m f ∧ 1 ≤ m ∧ m ≤ 8 ∧ r2 d = iI m ∧ ∀ k, k < m → f k = r1 (8 * d + k) ∧ ∃ c : Nat, f k = iI c ∧ 97 ≤ c ∧ c ≤ 122
def bNg (U : UH) (r2 r1 : Nat → Int32) (d a : Nat) : Prop := ∃ (m : Nat) (f : Nat → Int32), vSg U a m f ∧ m ≤ 8 ∧ r2 d = iI m ∧ ∀ k, k < m → f k = r1 (8 * d + k)
theorem bNm.g {lo : Nat} {U : UH} {r2 r1 : Nat → Int32} {d a : Nat} (h : bNm lo U r2 r1 d a) : bNg U r2 r1 d a := by
  obtain ⟨-, m, f, h1, -, h2, h3, h4⟩ := h
  exact ⟨m, f, h1.g, h2, h3, fun k hk => (h4 k hk).1⟩
section J3s
variable {N b : Nat} {g : uEnv} {σ : MS} {j1 j2 m cnt : Nat}
theorem m_f30 {k3 : MS → Int32 → Int32 → Option (Int32 × MS)} {x3 : Int32} {d : Nat} (h8 : σ.1 8 = iI m) (hm : m ≤ 8) (h1 : 8 * d + 8 ≤ mLen j1) (h2 : mLen j1 ≤ 1000) : ∀ (q k ok : Nat), k ≤ m → m < k + q → (ok = 1 ∧ ∀ i, i < k → σ.2.1 j1 (8 * d + i) = σ.2.1 11 i) ∨ (ok = 0 ∧ ¬ ∀ i, i < m → σ.2.1 j1 (8 * d + i) = σ.2.1 11 i) → ((∀ i, i < m → σ.2.1 j1 (8 * d + i) = σ.2.1 11 i) → f_find_30 N j1 j2 k3 q σ x3 (iI d) (iI ok) (iI k) = f_find_77 N j1 j2 k3 σ x3 (iI d) 1) ∧ ((¬ ∀ i, i < m → σ.2.1 j1 (8 * d + i) = σ.2.1 11 i) → f_find_30 N j1 j2 k3 q σ x3 (iI d) (iI ok) (iI k) = f_find_77 N j1 j2 k3 σ x3 (iI d) 0) := by
  intro q
  induction q with
  | zero => intro k ok q1 q2; omega
  | succ q ih =>
    intro k ok q1 q2 hok
    rw [f_find_30, h8]
    rcases hok with ⟨rfl, z⟩ | ⟨rfl, z⟩
    · by_cases hk : k = m
      · subst hk
        rw [p_le (by omega) (by omega) (by omega) (by omega) (by omega)]
        exact ⟨fun _ => rfl, fun y => absurd z y⟩
      · have ek : iI (k : Int) + 1 = iI ((k + 1 : Nat) : Int) := by
          rw [show (1 : Int32) = iI 1 from rfl, i_add]
          rfl
        have ei : (8 : Int32) * iI (d : Int) + iI (k : Int) = iI ((8 * d + k : Nat) : Int) := by
          rw [j8, i_mul, i_add]
          rfl
        obtain ⟨t1, t2⟩ := t_ix (a := ((8 * d + k : Nat) : Int)) (n := mLen j1) (k := 8 * d + k) rfl (by omega) (by omega)
        obtain ⟨t3, t4⟩ := t_ix (a := (k : Int)) (n := mLen 11) (k := k) rfl (by rw [show mLen 11 = 8 from rfl]; omega) (by rw [show mLen 11 = 8 from rfl]; omega)
        rw [n_le (by omega) (by omega) (by omega) (by omega) (by omega), if_neg (show ¬ iI ((1 : Nat) : Int) = 0 from n10), ei, if_pos t1, p_let, t2, if_pos t3, p_let, t4]
        unfold f_find_69
        by_cases c : σ.2.1 j1 (8 * d + k) = σ.2.1 11 k
        · rw [if_pos c, ek, p_let]
          exact ih (k + 1) 1 (by omega) (by omega) (Or.inl ⟨rfl, fun i hi => by
            by_cases e : i = k
            · rw [e]
              exact c
            · exact z i (by omega)⟩)
        · rw [if_neg c, ek, p_let]
          exact ih (k + 1) 0 (by omega) (by omega) (Or.inr ⟨rfl, fun y => c (y k (by omega))⟩)
    · refine ⟨fun y => absurd y z, fun _ => ?_⟩
      rw [if_pos (show iI ((0 : Nat) : Int) = 0 from rfl)]
      split <;> rfl
theorem m_find3 (h8 : σ.1 8 = iI m) (hm : m ≤ 8) (h1 : 8 * cnt ≤ mLen j1) (h2 : mLen j1 ≤ 1000) (h3 : cnt ≤ mLen j2) (h4 : mLen j2 ≤ 1000) (h5 : ∀ d, d < cnt → ∃ q : Nat, σ.2.1 j2 d = iI q ∧ q ≤ 8) (hN : 100 ≤ N) : ∀ (q d : Nat), d ≤ cnt → cnt < d + q → (∀ e, e < d → ¬ nmM σ j1 j2 m e) → (∃ r, r < cnt ∧ nmM σ j1 j2 m r ∧ (∀ e, e < r → ¬ nmM σ j1 j2 m e) ∧ f_find_3 N j1 j2 q σ (iI cnt) (iI d) = some (iI r, σ)) ∨ ((∀ e, e < cnt → ¬ nmM σ j1 j2 m e) ∧ f_find_3 N j1 j2 q σ (iI cnt) (iI d) = some (-1, σ)) := by
  intro q
  induction q with
  | zero => intro d q1 q2; omega
  | succ q ih =>
    intro d q1 q2 q3
    rw [f_find_3]
    by_cases hd : d = cnt
    · subst hd
      right
      refine ⟨q3, ?_⟩
      rw [p_le (by omega) (by omega) (by omega) (by omega) (by omega)]
    · obtain ⟨L, l1, l2⟩ := h5 d (by omega)
      have ed : iI (d : Int) + 1 = iI ((d + 1 : Nat) : Int) := by
        rw [show (1 : Int32) = iI 1 from rfl, i_add]
        rfl
      obtain ⟨t1, t2⟩ := t_ix (a := (d : Int)) (n := mLen j2) (k := d) rfl (by omega) (by omega)
      rw [n_le (by omega) (by omega) (by omega) (by omega) (by omega), if_pos t1, p_let, t2, l1, h8]
      unfold f_find_25
      by_cases c : L = m
      · subst c
        obtain ⟨i1, i2⟩ := m_f30 (N := N) (j2 := j2) (k3 := f_find_3 N j1 j2 q) (x3 := iI cnt) (d := d) h8 hm (by omega) h2 N 0 1 (by omega) (by omega) (Or.inl ⟨rfl, fun i hi => by omega⟩)
        have i1 : (∀ i, i < L → σ.2.1 j1 (8 * d + i) = σ.2.1 11 i) → f_find_30 N j1 j2 (f_find_3 N j1 j2 q) N σ (iI cnt) (iI d) 1 0 = _ := i1
        have i2 : (¬ ∀ i, i < L → σ.2.1 j1 (8 * d + i) = σ.2.1 11 i) → f_find_30 N j1 j2 (f_find_3 N j1 j2 q) N σ (iI cnt) (iI d) 1 0 = _ := i2
        rw [if_pos rfl]
        by_cases a : ∀ i, i < L → σ.2.1 j1 (8 * d + i) = σ.2.1 11 i
        · left
          refine ⟨d, by omega, ⟨l1, a⟩, q3, ?_⟩
          rw [i1 a]
          unfold f_find_77
          rw [if_neg n10]
        · rw [i2 a]
          unfold f_find_77
          rw [if_pos rfl, ed, p_let]
          exact ih (d + 1) (by omega) (by omega) (fun e he => by
            by_cases z : e = d
            · rw [z]
              exact fun y => a y.2
            · exact q3 e (by omega))
      · obtain ⟨N', hN'⟩ : ∃ N', N = N' + 1 := ⟨N - 1, by omega⟩
        have i0 : f_find_30 N j1 j2 (f_find_3 N j1 j2 q) N σ (iI cnt) (iI d) 0 0 = f_find_77 N j1 j2 (f_find_3 N j1 j2 q) σ (iI cnt) (iI d) 0 := by
          have : ∀ N', f_find_30 N j1 j2 (f_find_3 N j1 j2 q) (N' + 1) σ (iI cnt) (iI d) 0 0 = f_find_77 N j1 j2 (f_find_3 N j1 j2 q) σ (iI cnt) (iI d) 0 := fun N' => by
            rw [f_find_30, if_pos rfl]
            split <;> rfl
          have := this (N - 1)
          rw [show N - 1 + 1 = N by omega] at this
          exact this
        rw [n_eq (by omega) (by omega) (by omega) (by omega) (by omega), i0]
        unfold f_find_77
        rw [if_pos rfl, ed, p_let]
        exact ih (d + 1) (by omega) (by omega) (fun e he => by
          by_cases z : e = d
          · rw [z]
            intro y
            have y1 : σ.2.1 j2 d = iI m := y.1
            rw [l1, j_eq (by omega) (by omega) (by omega) (by omega)] at y1
            omega
          · exact q3 e (by omega))
variable {U : UH} {wa : Nat} {f : Nat → Int32}
theorem nm_eq {d a : Nat} (hs : vSg U wa m f) (hf : ∀ k, k < m → f k = σ.2.1 11 k) (hm : m ≤ 8) (hn : bNg U (σ.2.1 j2) (σ.2.1 j1) d a) (hN : 1001 ≤ N) : ∃ q : Nat, σ.2.1 j2 d = iI q ∧ q ≤ 8 ∧ (nmM σ j1 j2 m d → f_J6_equals N b g U a (some wa) = some (1, U)) ∧ (¬ nmM σ j1 j2 m d → f_J6_equals N b g U a (some wa) = some (0, U)) ∧ uIs U a 20 = true := by
  obtain ⟨q, fq, s1, s3, s4, s5⟩ := hn
  obtain ⟨i1, i2⟩ := c_equals (N := N) (b := b) (g := g) s1 hs (by omega) (by omega) hN
  obtain ⟨v, hh, z, y1, -⟩ := id s1
  refine ⟨q, s4, s3, fun y => i1 ?_, fun y => i2 (fun z => y ?_), v_is y1⟩
  · have e : iI (q : Int) = iI (m : Int) := s4.symm.trans y.1
    rw [j_eq (by omega) (by omega) (by omega) (by omega)] at e
    have e' : q = m := by omega
    subst e'
    exact ⟨rfl, fun k hk => by rw [s5 k hk, y.2 k hk, hf k hk]⟩
  · obtain ⟨z1, z2⟩ := z
    subst z1
    exact ⟨s4, fun k hk => by rw [← s5 k hk, z2 k hk, hf k hk]⟩
theorem c_grOf {bo gl al arr ml : Nat} {mc : Int32} {xs : Nat → Option Nat} {ga nm : Nat → Nat} {fs : List Value} (hb : U.2.2 bo = some (.inr (3, .ref gl :: fs))) (hl : vLs U gl arr cnt ml mc xs) (hx : ∀ d, d < cnt → xs d = some (ga d) ∧ (∃ v1 v2 : Value, U.2.2 (ga d) = some (.inr (5, [.ref (nm d), v1, v2]))) ∧ bNg U (σ.2.1 j2) (σ.2.1 j1) d (nm d)) (hs : vSg U wa m f) (hf : ∀ k, k < m → f k = σ.2.1 11 k) (hm : m ≤ 8) (hc : cnt ≤ 1000) (hN : 1001 ≤ N) : ∀ (q d : Nat), d ≤ cnt → cnt < d + q → (∀ r, r < cnt → d ≤ r → nmM σ j1 j2 m r → (∀ e, d ≤ e → e < r → ¬ nmM σ j1 j2 m e) → f_X4_groundOf_2 N b g bo q U (some wa) (iI d) = some (iI r, U)) ∧ ((∀ e, d ≤ e → e < cnt → ¬ nmM σ j1 j2 m e) → f_X4_groundOf_2 N b g bo q U (some wa) (iI d) = some (-1, U)) := by
  intro q
  induction q with
  | zero => intro d q1 q2; omega
  | succ q ih =>
    intro d q1 q2
    have sz : f_J2_size N b g U gl = some (iI cnt, U) := l_size hl
    rw [f_X4_groundOf_2, v_gr hb (k := 0) rfl, p_bs, p_bs, if_pos (v_is hl.1), sz, q_uc]
    by_cases hd : d = cnt
    · subst hd
      rw [p_le (by omega) (by omega) (by omega) (by omega) (by omega)]
      exact ⟨fun r r1 r2 => by omega, fun _ => rfl⟩
    · obtain ⟨x1, ⟨v1, v2, x2⟩, x3⟩ := hx d (by omega)
      obtain ⟨L, -, -, e1, e2, e3⟩ := nm_eq (N := N) (b := b) (g := g) hs hf hm x3 hN
      have gt : f_J2_get N b g U gl (iI (d : Int)) = some (some (ga d), U) := by
        rw [l_get hl (by omega) (by omega)]
        show some (xs d, U) = _
        rw [x1]
      have ed : iI (d : Int) + 1 = iI ((d + 1 : Nat) : Int) := by
        rw [show (1 : Int32) = iI 1 from rfl, i_add]
        rfl
      rw [n_le (by omega) (by omega) (by omega) (by omega) (by omega), v_gr hb (k := 0) rfl, p_bs, p_bs, if_pos (v_is hl.1), gt, q_uc, p_bs, if_pos (v_is x2), v_gr x2 (k := 0) rfl, p_bs, p_bs, if_pos e3]
      by_cases c : nmM σ j1 j2 m d
      · rw [e1 c, q_uc, if_neg n10]
        refine ⟨fun r r1 r2 r3 r4 => ?_, fun y => absurd c (y d (Nat.le_refl _) (by omega))⟩
        have : r = d := by
          apply Classical.byContradiction
          intro z
          exact r4 d (Nat.le_refl _) (by omega) c
        rw [this]
      · rw [e2 c, q_uc, if_pos rfl, ed, p_let]
        obtain ⟨i1, i2⟩ := ih (d + 1) (by omega) (by omega)
        refine ⟨fun r r1 r2 r3 r4 => i1 r r1 ?_ r3 (fun e he1 he2 => r4 e (by omega) he2), fun y => i2 (fun e he1 he2 => y e (by omega) he2)⟩
        apply Classical.byContradiction
        intro z
        have : r = d := by omega
        rw [this] at r3
        exact c r3
theorem c_hasA {bo gl arr ml : Nat} {v0 : Value} {mc : Int32} {xs : Nat → Option Nat} {ga nm : Nat → Nat} {fs : List Value} (hb : U.2.2 bo = some (.inr (3, v0 :: .ref gl :: fs))) (hl : vLs U gl arr cnt ml mc xs) (hx : ∀ d, d < cnt → xs d = some (ga d) ∧ (∃ v1 v2 v3 : Value, U.2.2 (ga d) = some (.inr (8, [.ref (nm d), v1, v2, v3]))) ∧ bNg U (σ.2.1 j2) (σ.2.1 j1) d (nm d)) (hs : vSg U wa m f) (hf : ∀ k, k < m → f k = σ.2.1 11 k) (hm : m ≤ 8) (hc : cnt ≤ 1000) (hN : 1001 ≤ N) : ∀ (q d : Nat), d ≤ cnt → cnt < d + q → ((∃ r, r < cnt ∧ d ≤ r ∧ nmM σ j1 j2 m r) → f_X4_hasAttempt_2 N b g bo q U (some wa) (iI d) = some (1, U)) ∧ ((∀ e, d ≤ e → e < cnt → ¬ nmM σ j1 j2 m e) → f_X4_hasAttempt_2 N b g bo q U (some wa) (iI d) = some (0, U)) := by
  intro q
  induction q with
  | zero => intro d q1 q2; omega
  | succ q ih =>
    intro d q1 q2
    have sz : f_J2_size N b g U gl = some (iI cnt, U) := l_size hl
    rw [f_X4_hasAttempt_2, v_gr hb (k := 1) rfl, p_bs, p_bs, if_pos (v_is hl.1), sz, q_uc]
    by_cases hd : d = cnt
    · subst hd
      rw [p_le (by omega) (by omega) (by omega) (by omega) (by omega)]
      exact ⟨fun ⟨r, r1, r2, _⟩ => by omega, fun _ => rfl⟩
    · obtain ⟨x1, ⟨v1, v2, v3, x2⟩, x3⟩ := hx d (by omega)
      obtain ⟨L, -, -, e1, e2, e3⟩ := nm_eq (N := N) (b := b) (g := g) hs hf hm x3 hN
      have gt : f_J2_get N b g U gl (iI (d : Int)) = some (some (ga d), U) := by
        rw [l_get hl (by omega) (by omega)]
        show some (xs d, U) = _
        rw [x1]
      have nmx : f_X10_name N b g U (ga d) = some (some (nm d), U) := by
        unfold f_X10_name
        rw [v_gr x2 (k := 0) rfl, p_bs]
      have ed : iI (d : Int) + 1 = iI ((d + 1 : Nat) : Int) := by
        rw [show (1 : Int32) = iI 1 from rfl, i_add]
        rfl
      rw [n_le (by omega) (by omega) (by omega) (by omega) (by omega), v_gr hb (k := 1) rfl, p_bs, p_bs, if_pos (v_is hl.1), gt, q_uc, p_bs, if_pos (v_is x2), if_pos (v_is x2), nmx, q_uc, p_bs, if_pos e3]
      by_cases c : nmM σ j1 j2 m d
      · rw [e1 c, q_uc, if_neg n10]
        exact ⟨fun _ => rfl, fun y => absurd c (y d (Nat.le_refl _) (by omega))⟩
      · rw [e2 c, q_uc, if_pos rfl, ed, p_let]
        obtain ⟨i1, i2⟩ := ih (d + 1) (by omega) (by omega)
        refine ⟨fun ⟨r, r1, r2, r3⟩ => i1 ⟨r, r1, ?_, r3⟩, fun y => i2 (fun e he1 he2 => y e (by omega) he2)⟩
        apply Classical.byContradiction
        intro z
        have : r = d := by omega
        rw [this] at r3
        exact c r3
end J3s
