/-! PLAIN: regret of the model, and the call -/
theorem mL74 : mLen 74 = 2000 := rfl
theorem yBs.same {s1 a : Nat → Int32} {s2 c : Nat → Nat → Int32} {B : bBk} {dead : Int} {w h n nd : Nat} {hts : Nat → Int} {fl : Nat → Nat} {dO kn : Nat → Int} {dc : Nat → Nat} {wg : Nat → Nat → Nat} (hB : yBs s1 s2 B dead w h n nd hts fl dO kn dc wg) (ha : ∀ k, k ≠ 55 → a k = s1 k) (hc : ∀ j, j ≠ 54 → j ≠ 70 → c j = s2 j) : yBs a c B dead w h n nd hts fl dO kn dc wg := by
  unfold yBs zBs zFl zKn at hB ⊢
  rw [ha 35 (by decide), ha 36 (by decide), ha 37 (by decide), hc 42 (by decide) (by decide), hc 43 (by decide) (by decide), hc 45 (by decide) (by decide), hc 46 (by decide) (by decide), hc 52 (by decide) (by decide), hc 53 (by decide) (by decide), hc 71 (by decide) (by decide), hc 72 (by decide) (by decide)]
  exact hB
theorem m_rg53 {N : Nat} {s1 : Nat → Int32} {s2 : Nat → Nat → Int32} {V : Nat → Int64} {np : Nat} {x1 : Int32} (hnp : np ≤ 700) : ∀ (m i : Nat) (O : Nat → Int32), i ≤ np → np < i + m → (∀ j, j < i → O j = s2 54 j) → ∃ O' : Nat → Int32, f_regret_53 N m (s1, zRow s2 74 O, V) x1 (iI np) (iI i) = f_regret_85 N N (s1, zRow s2 74 O', V) x1 (iI np) 0 0 ∧ ∀ j, j < np → O' j = s2 54 j := by
  intro m
  induction m with
  | zero => intro i O h1 h2; omega
  | succ m ih =>
    intro i O h1 h2 hO
    rw [f_regret_53]
    by_cases hi : np ≤ i
    · refine ⟨O, ?_, fun j hj => hO j (by omega)⟩
      rw [p_le (by omega) (by omega) (by omega) (by omega) (by omega)]
    · have ei : iI (i : Int) + 1 = iI ((i + 1 : Nat) : Int) := by
        rw [j1, i_add]
        rfl
      obtain ⟨i1, i2⟩ := t_ix (a := (i : Int)) (n := mLen 54) (k := i) rfl (by rw [mL54]; omega) (by rw [mL54]; omega)
      obtain ⟨i3, -⟩ := t_ix (a := (i : Int)) (n := mLen 74) (k := i) rfl (by rw [mL74]; omega) (by rw [mL74]; omega)
      have q54 : ((s1, zRow s2 74 O, V) : MS).2.1 54 = s2 54 := zRow_n (s2 := s2) (j := 74) (k := 54) (R := O) (by decide)
      obtain ⟨O', r1, r2⟩ := ih (i + 1) (upd O i (s2 54 i)) (by omega) (by omega) (fun j hj => by
        by_cases e : j = i
        · rw [e, upd_s]
        · rw [upd_n e]
          exact hO j (by omega))
      refine ⟨O', ?_, r2⟩
      rw [n_le (by omega) (by omega) (by omega) (by omega) (by omega), if_pos i1, p_let, q54, i2, if_pos i3, p_let, zRow_arr, p_let, ei]
      exact r1
theorem m_rg151 {N : Nat} {a : Nat → Int32} {V : Nat → Int64} {np : Nat} {x4 : Int32} (hnp : np ≤ 700) : ∀ (m i : Nat) (c : Nat → Nat → Int32), i ≤ np → np < i + m → (∀ j, j < i → c 54 j = c 74 j) → ∃ c' : Nat → Nat → Int32, f_regret_151 N m (a, c, V) (iI np) x4 (iI i) = some (x4, (a, c', V)) ∧ (∀ j, j < np → c' 54 j = c 74 j) ∧ ∀ k, k ≠ 54 → c' k = c k := by
  intro m
  induction m with
  | zero => intro i c h1 h2; omega
  | succ m ih =>
    intro i c h1 h2 hO
    rw [f_regret_151]
    by_cases hi : np ≤ i
    · refine ⟨c, ?_, fun j hj => hO j (by omega), fun _ _ => rfl⟩
      rw [p_le (by omega) (by omega) (by omega) (by omega) (by omega)]
    · have ei : iI (i : Int) + 1 = iI ((i + 1 : Nat) : Int) := by
        rw [j1, i_add]
        rfl
      obtain ⟨i1, i2⟩ := t_ix (a := (i : Int)) (n := mLen 54) (k := i) rfl (by rw [mL54]; omega) (by rw [mL54]; omega)
      obtain ⟨i3, -⟩ := t_ix (a := (i : Int)) (n := mLen 74) (k := i) rfl (by rw [mL74]; omega) (by rw [mL74]; omega)
      have n74 : zRow c 54 (upd (c 54) i (c 74 i)) 74 = c 74 := zRow_n (by decide)
      obtain ⟨c', r1, r2, r3⟩ := ih (i + 1) (zRow c 54 (upd (c 54) i (c 74 i))) (by omega) (by omega) (fun j hj => by
        rw [zRow_s, n74]
        by_cases e : j = i
        · rw [e, upd_s]
        · rw [upd_n e]
          exact hO j (by omega))
      rw [n74] at r2
      refine ⟨c', ?_, r2, fun k hk => (r3 k hk).trans (zRow_n hk)⟩
      rw [n_le (by omega) (by omega) (by omega) (by omega) (by omega), if_pos i3, p_let, i2, if_pos i1, p_let, p_let, ei]
      exact r1
theorem m_rg85 {N : Nat} {s1 : Nat → Int32} {s2 : Nat → Nat → Int32} {V : Nat → Int64} {B : bBk} {dead : Int} {w h n nd go fr np : Nat} {hts : Nat → Int} {fl : Nat → Nat} {dO kn : Nat → Int} {dc : Nat → Nat} {wg : Nat → Nat → Nat} {Tf : Nat → Nat} (hB : yBs s1 s2 B dead w h n nd hts fl dO kn dc wg) (h49 : s1 49 = iI go) (h50 : s1 50 = iI ((0 : Nat) : Int)) (hgo : go < n) (h44 : ∀ e, e < nd → s2 44 e = iI (dc e) ∧ dc e < n) (hkn : ∀ e, e < nd → -1 ≤ kn e ∧ kn e < 8 ∧ (kn e ≠ -1 → wg e (kn e).toNat ≠ 0)) (hV : ∀ cd, cd < 1024 → yCan nd kn wg cd → zVs V cd n (zY V cd)) (hW : ∀ t, wWd w h n nd B.2.1 go 0 fl (fun c => zNb w h dc c nd) dO kn wg (zBG B dead hts w h) (zY V) (zFc nd kn wg t nd)) (hfr : fr < n) (hba : zBa kn wg nd < 1024 ∧ yCan nd kn wg (zBa kn wg nd)) (hfin : zY V (zBa kn wg nd) fr < 1000000000000000) (hT : rgT w h n nd go fl (fun c => zNb w h dc c nd) dO kn wg (zBG B dead hts w h) (zY V) fr Tf) (hnp : np ≤ 700) (hN : 1000 ≤ N) : ∀ (m t : Nat) (a : Nat → Int32) (c : Nat → Nat → Int32), t ≤ zTm kn wg nd → zTm kn wg nd < t + m → (∀ k, k ≠ 55 → a k = s1 k) → (∀ j, j ≠ 54 → j ≠ 70 → c j = s2 j) → ∃ (a' : Nat → Int32) (c' : Nat → Nat → Int32), f_regret_85 N m (a, c, V) (iI fr) (iI np) (iI (zRg (rgC w h nd go fl (fun c => zNb w h dc c nd) dO kn wg (zBG B dead hts w h) (zY V) fr Tf) (fun t => zY V (zFc nd kn wg t nd) fr) t)) (iI t) = some (iI (zRg (rgC w h nd go fl (fun c => zNb w h dc c nd) dO kn wg (zBG B dead hts w h) (zY V) fr Tf) (fun t => zY V (zFc nd kn wg t nd) fr) (zTm kn wg nd)), (a', c', V)) ∧ (∀ k, k ≠ 55 → a' k = s1 k) ∧ a' 55 = iI np ∧ (∀ j, j ≠ 54 → j ≠ 70 → c' j = s2 j) ∧ ∀ j, j < np → c' 54 j = s2 74 j := by
  have hW0 := hW 0
  obtain ⟨hS, ⟨hw, hh, hn, hnd⟩, h3, hwt, -⟩ := hW0
  have m4 : w * h ≤ 10 * 10 := Nat.mul_le_mul hw.2 hh.2
  have tb := zTm_b (kn := kn) (wg := wg) nd h3
  have p3 : 3 ^ nd ≤ 3 ^ 5 := Nat.pow_le_pow_right (by decide) hnd
  have hs0 : wOk n nd kn wg (zY V) (fr, zBa kn wg nd, 0) := ⟨hfr, hba.1, hba.2, hfin⟩
  have csb : ∀ t, rgC w h nd go fl (fun c => zNb w h dc c nd) dO kn wg (zBG B dead hts w h) (zY V) fr Tf t ≤ 18042600 := fun t => by
    have q := (w_ok (hW t) hs0 (Tf t)).2
    have q2 := (hT t).1
    have q : rgC w h nd go fl (fun c => zNb w h dc c nd) dO kn wg (zBG B dead hts w h) (zY V) fr Tf t ≤ 0 + 30071 * Tf t := q
    omega
  intro m
  induction m with
  | zero => intro t a c h1 h2; omega
  | succ m ih =>
    intro t a c h1 h2 ha hc
    have hB1 := hB.same ha hc
    rw [f_regret_85]
    unfold f_regret_135
    rw [m_many (σ := (a, c, V)) hB1.2.1 (by omega), q_mc]
    by_cases ht : zTm kn wg nd ≤ t
    · have : t = zTm kn wg nd := by omega
      subst this
      obtain ⟨c', r1, r2, r3⟩ := m_rg151 (N := N) (a := upd a 55 (iI np)) (V := V) (x4 := iI (zRg (rgC w h nd go fl (fun c => zNb w h dc c nd) dO kn wg (zBG B dead hts w h) (zY V) fr Tf) (fun t => zY V (zFc nd kn wg t nd) fr) (zTm kn wg nd))) hnp N 0 c (by omega) (by omega) (fun j hj => by omega)
      refine ⟨upd a 55 (iI np), c', ?_, fun k hk => (upd_n hk).trans (ha k hk), upd_s, fun j j1 j2 => (r3 j j1).trans (hc j j1 j2), fun j hj => ?_⟩
      · rw [p_le (by omega) (by omega) (by omega) (by omega) (by omega), p_let]
        exact r1
      · rw [r2 j hj, hc 74 (by decide) (by decide)]
    · obtain ⟨q1, q2, q3⟩ := zFc_can (t := t) (kn := kn) (wg := wg) hnd h3 hkn
      obtain ⟨t1, t2, t3⟩ := hT t
      obtain ⟨P', R', M1, M2⟩ := m_goes (N := N) (s1 := a) (s2 := c) (V := V) (t := t) (fr := fr) (mean := 0) hB1 ((ha 49 (by decide)).trans h49) ((ha 50 (by decide)).trans h50) (Or.inl rfl) hgo (fun e he => ⟨by rw [hc 44 (by decide) (by decide)]; exact (h44 e he).1, (h44 e he).2⟩) (fun d hd => (hkn d hd).2.2) hV (hW t) hs0 t2 t3 t1 (by omega) hN
      have ha2 : ∀ k, k ≠ 55 → upd a 55 (iI ((Tf t + 1 : Nat) : Int)) k = s1 k := fun k hk => (upd_n hk).trans (ha k hk)
      have hc2 : ∀ j, j ≠ 54 → j ≠ 70 → zRow (zRow c 54 P') 70 R' j = s2 j := fun j j1 j2 => (zRow_n j2).trans ((zRow_n j1).trans (hc j j1 j2))
      have hB2 := hB.same ha2 hc2
      have fu := m_full (N := N) (σ := (upd a 55 (iI ((Tf t + 1 : Nat) : Int)), zRow (zRow c 54 P') 70 R', V)) (t := t) hB2.2.1 (fun e he => (h3 e he).1) (fun d hd => (hkn d hd).2.2) (by omega) (by omega)
      have yfin : zY V (zFc nd kn wg t nd) fr < 1000000000000000 := z_ful (hW t) (Or.inl rfl) hfr _ (zBa kn wg nd) rfl hba.1 hba.2 (fun e he => by
        by_cases q : kn e = -1
        · exact Or.inl ((zBa_0 (fun e he => (h3 e he).2) hkn he).mpr q)
        · right
          obtain ⟨-, b2, -⟩ := zBa_d (kn := kn) (wg := wg) nd (fun e he => (zBd1_lt (h3 e he).2 (hkn e he)).1)
          obtain ⟨-, -, f3', -⟩ := zFc_d (t := t) hnd h3 hkn nd (Nat.le_refl _)
          rw [b2 e he, f3' e (by omega) he, if_neg q]) hfin
      have yb := ((hS _ q1 q2).1 fr hfr).2 yfin
      have uk := zUk_le (cd := zFc nd kn wg t nd) nd
      have bd : zBd 0 nd (fun e => zCn (wg e) 8) (fun e k => wg e (zKd (wg e) k)) (zFc nd kn wg t nd) ≤ 18042600 := by
        show (zUk (zFc nd kn wg t nd) nd + 1) * (3007100 * 1) ≤ _
        omega
      have cb := csb t
      have rb := zRg_b (yv := fun t => zY V (zFc nd kn wg t nd) fr) csb t
      have vv := (hV _ q1 q2 fr hfr).1
      have et : iI (t : Int) + 1 = iI ((t + 1 : Nat) : Int) := by
        rw [j1, i_add]
        rfl
      obtain ⟨i1, i2⟩ := t_ix (a := 100 * (zFc nd kn wg t nd : Int) + (fr : Int)) (n := 102400) (k := 100 * zFc nd kn wg t nd + fr) (by omega) (by omega) (by omega)
      obtain ⟨a', c', z1, z2⟩ := ih (t + 1) (upd a 55 (iI ((Tf t + 1 : Nat) : Int))) (zRow (zRow c 54 P') 70 R') (by omega) (by omega) ha2 hc2
      refine ⟨a', c', ?_, z2⟩
      rw [zRg] at z1
      have M1' : f_goes N (a, c, V) (iI fr) (iI t) = some (iI (rgC w h nd go fl (fun c => zNb w h dc c nd) dO kn wg (zBG B dead hts w h) (zY V) fr Tf t), (upd a 55 (iI ((Tf t + 1 : Nat) : Int)), zRow (zRow c 54 P') 70 R', V)) := M1
      rw [n_le (by omega) (by omega) (by omega) (by omega) (by omega), M1', q_mc, fu, q_mc, j100, i_mul, i_add, if_pos i1, p_let, i2]
      show mlet (iI (rgC w h nd go fl (fun c => zNb w h dc c nd) dO kn wg (zBG B dead hts w h) (zY V) fr Tf t) - (V (100 * zFc nd kn wg t nd + fr)).toInt32) _ = _
      rw [vv, e_l2i (by omega) (by omega), i_sub, p_let]
      by_cases q : (rgC w h nd go fl (fun c => zNb w h dc c nd) dO kn wg (zBG B dead hts w h) (zY V) fr Tf t : Int) - (zY V (zFc nd kn wg t nd) fr : Int) ≤ zRg (rgC w h nd go fl (fun c => zNb w h dc c nd) dO kn wg (zBG B dead hts w h) (zY V) fr Tf) (fun t => zY V (zFc nd kn wg t nd) fr) t
      · rw [if_pos q] at z1
        rw [p_le (by omega) (by omega) (by omega) (by omega) (by omega), p_let, et]
        exact z1
      · rw [if_neg q] at z1
        rw [n_le (by omega) (by omega) (by omega) (by omega) (by omega), p_let, et]
        exact z1
