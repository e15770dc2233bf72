/-! PLAIN: the class's begin, whole -/
theorem u_nrr {u : UH} {a a' c c' : Nat} {fs fs' : List Value} (h : u.2.2 a = some (.inr (c, fs))) (h' : u.2.2 a' = some (.inr (c', fs'))) (hc : c ≠ c') : a ≠ a' := fun z => by
  subst z
  rw [h] at h'
  cases h'
  exact hc rfl
theorem u_nll {u : UH} {a a' t t' m m' : Nat} {z z' : uVs} (h : u.2.2 a = some (.inl (t, m, z))) (h' : u.2.2 a' = some (.inl (t', m', z'))) (hc : t ≠ t' ∨ m ≠ m') : a ≠ a' := fun x => by
  subst x
  rw [h] at h'
  cases h'
  rcases hc with q | q <;> exact q rfl
theorem u_nlr {u : UH} {a a' t m c : Nat} {z : uVs} {fs : List Value} (h : u.2.2 a = some (.inl (t, m, z))) (h' : u.2.2 a' = some (.inr (c, fs))) : a ≠ a' := fun x => by
  subst x
  rw [h] at h'
  cases h'
/-- what a map and its doubts are made of -/
def vTg (e : uE) : Prop := (∃ c fs, e = .inr (c, fs) ∧ (c = 12 ∨ c = 18 ∨ c = 13)) ∨ ∃ t m z, e = .inl (t, m, z) ∧ (t = 0 ∨ t = 4 ∨ t = 5 ∨ t = 6)
theorem vTg_r {c : Nat} {fs : List Value} (h : c = 12 ∨ c = 18 ∨ c = 13) : vTg (.inr (c, fs)) := Or.inl ⟨c, fs, rfl, h⟩
theorem vTg_l {t m : Nat} {z : uVs} (h : t = 0 ∨ t = 4 ∨ t = 5 ∨ t = 6) : vTg (.inl (t, m, z)) := Or.inr ⟨t, m, z, rfl, h⟩
theorem vLd.keep {u u' : UH} {g : uEnv} {la da wa : Nat → Nat} {bk : Nat} {v8 v9 v10 : Value} {w h n nd : Nat} {hts : Nat → Int} {fl : Nat → Nat} {dO kn : Nat → Int} {wg : Nat → Nat → Nat} (hk : ∀ x e, u.2.2 x = some e → vTg e → u'.2.2 x = some e) (hL : vLd u g la da wa bk v8 v9 v10 w h n nd hts fl dO kn wg) : vLd u' g la da wa bk v8 v9 v10 w h n nd hts fl dO kn wg := by
  obtain ⟨l0, hw, hh, hn, hnd, ⟨hf, a1, a2⟩, ⟨gf, g1, g2⟩, ⟨df, f1, f2⟩, ⟨m, mc, xs, ⟨x1, x2, x3⟩, x4⟩, ⟨yf, wr, y1, y2⟩, hdd⟩ := hL
  refine ⟨hk _ _ l0 (vTg_r (by decide)), hw, hh, hn, hnd, ⟨hf, hk _ _ a1 (vTg_l (by decide)), a2⟩, ⟨gf, hk _ _ g1 (vTg_l (by decide)), g2⟩, ⟨df, hk _ _ f1 (vTg_l (by decide)), f2⟩, ⟨m, mc, xs, ⟨hk _ _ x1 (vTg_r (by decide)), hk _ _ x2 (vTg_l (by decide)), x3⟩, x4⟩, ⟨yf, wr, hk _ _ y1 (vTg_l (by decide)), y2⟩, fun e he => ?_⟩
  obtain ⟨⟨d1, wf, d2, d3⟩, d4⟩ := hdd e he
  exact ⟨⟨hk _ _ d1 (vTg_r (by decide)), wf, hk _ _ d2 (vTg_l (by decide)), d3⟩, d4⟩
theorem u_kpR {u : UH} {a c : Nat} {fs : List Value} {e' : uE} (h : u.2.2 a = some (.inr (c, fs))) (hc : c ≠ 12 ∧ c ≠ 18 ∧ c ≠ 13) : ∀ x e, u.2.2 x = some e → vTg e → (uSet u a e').2.2 x = some e := fun x e he ht => by
  have hne : x ≠ a := fun z => by
    rw [z, h] at he
    cases he
    rcases ht with ⟨c', fs', q1, q2⟩ | ⟨t, m, z', q1, q2⟩
    · cases q1; omega
    · cases q1
  rw [u_sn hne]
  exact he
theorem u_kpL {u : UH} {a t m : Nat} {z : uVs} {e' : uE} (h : u.2.2 a = some (.inl (t, m, z))) (hc : t ≠ 0 ∧ t ≠ 4 ∧ t ≠ 5 ∧ t ≠ 6) : ∀ x e, u.2.2 x = some e → vTg e → (uSet u a e').2.2 x = some e := fun x e he ht => by
  have hne : x ≠ a := fun q => by
    rw [q, h] at he
    cases he
    rcases ht with ⟨c', fs', q1, q2⟩ | ⟨t', m', z', q1, q2⟩
    · cases q1
    · cases q1; omega
  rw [u_sn hne]
  exact he
theorem bH_id {u : UH} {la sa : Nat → Nat} {F : List Value} {S C : Nat → Int32} (h0 : u.2.2 (la 0) = some (.inr (12, F))) (h7 : u.2.2 (sa 7) = some (.inl (0, 100, .inl S))) (h8 : u.2.2 (sa 8) = some (.inl (0, 3200, .inl C))) : bH u la sa F S C = u := by
  refine Prod.ext rfl (Prod.ext rfl ?_)
  funext x
  by_cases e0 : x = la 0
  · exact (if_pos e0).trans (by rw [e0]; exact h0.symm)
  · by_cases e7 : x = sa 7
    · exact (if_neg e0).trans ((if_pos e7).trans (by rw [e7]; exact h7.symm))
    · by_cases e8 : x = sa 8
      · exact (if_neg e0).trans ((if_neg e7).trans ((if_pos e8).trans (by rw [e8]; exact h8.symm)))
      · exact bH_n e0 e7 e8
theorem kH_id {u : UH} {sa : Nat → Nat} {V : Nat → Int64} {D P : Nat → Int32} (h4 : u.2.2 (sa 4) = some (.inl (3, 102400, .inr (.inl V)))) (h5 : u.2.2 (sa 5) = some (.inl (2, 1024, .inl D))) (h6 : u.2.2 (sa 6) = some (.inl (2, 100, .inl P))) : kH u sa V D P = u := by
  refine Prod.ext rfl (Prod.ext rfl ?_)
  funext x
  by_cases e4 : x = sa 4
  · exact (if_pos e4).trans (by rw [e4]; exact h4.symm)
  · by_cases e5 : x = sa 5
    · exact (if_neg e4).trans ((if_pos e5).trans (by rw [e5]; exact h5.symm))
    · by_cases e6 : x = sa 6
      · exact (if_neg e4).trans ((if_neg e5).trans ((if_pos e6).trans (by rw [e6]; exact h6.symm)))
      · exact kH_n e4 e5 e6
/-- the solver's five arrays -/
def kAr (u : UH) (sa : Nat → Nat) : Prop := (∃ V, u.2.2 (sa 4) = some (.inl (3, 102400, .inr (.inl V)))) ∧ (∃ D, u.2.2 (sa 5) = some (.inl (2, 1024, .inl D))) ∧ (∃ P, u.2.2 (sa 6) = some (.inl (2, 100, .inl P))) ∧ (∃ S, u.2.2 (sa 7) = some (.inl (0, 100, .inl S))) ∧ ∃ C, u.2.2 (sa 8) = some (.inl (0, 3200, .inl C))
/-- what the solver writes -/
def kFp (so : Nat) (la sa : Nat → Nat) (x : Nat) : Prop := x = so ∨ x = la 0 ∨ x = sa 4 ∨ x = sa 5 ∨ x = sa 6 ∨ x = sa 7 ∨ x = sa 8
theorem c_begin {N b lo hi : Nat} {g : uEnv} {u : UH} {la da wa sa : Nat → Nat} {so ja bk al go mean : Nat} {f0 f1 f2 f3 : Value} {rv : Int32} {nm : Nat → Nat} {B : bBk} {dead : Int} {v8 v9 v10 : Value} {w h n nd : Nat} {hts : Nat → Int} {fl : Nat → Nat} {dO kn : Nat → Int} {wg : Nat → Nat → Nat} {dc : Nat → Nat} (hso : u.2.2 so = some (.inr (1, [f0, f1, f2, f3, .ref (sa 4), .ref (sa 5), .ref (sa 6), .ref (sa 7), .ref (sa 8)]))) (hb : b ≤ so) (hk : kOk b sa) (hk2 : bOk2 b lo hi la sa) (hA : kAr u sa) (ho : (so < lo ∨ hi ≤ so) ∧ (sa 5 < lo ∨ hi ≤ sa 5)) (hL : vLd u g la da wa bk v8 v9 v10 w h n nd hts fl dO kn wg) (vB : vBk u b lo hi bk al rv nm B) (hB : bOk B) (hdr : 0 ≤ dead ∧ dead ≤ 5) (hdc : ∀ c, c < n → dO c ≠ -1 → dc (dO c).toNat = c) (hcd : ∀ e, e < nd → dc e < n ∧ dO (dc e) = (e : Int)) (hfl : ∀ c, c < n → fl c < B.2.1) (hwg : ∀ e g, e < nd → g < 8 → wg e g ≠ 0 → g < B.2.1) (hJ : (mean = 0 ∧ u.2.2 ja = some (.inr (15, []))) ∨ (mean = 1 ∧ u.2.2 ja = some (.inr (14, [])))) (hN : 1025 ≤ N) :
    ∃ (ub : UH) (V : Nat → Int64) (D P : Nat → Int32) (u8 u9 u10 : Value), f_X2_begin N b g u so (some (la 0)) (iI go) (iI dead) (some ja) = some (some so, kH ub sa V D P) ∧ cCx ub g la da wa sa so ja bk u8 u9 u10 w h n nd B.2.1 go mean hts fl (fun c => zNb w h dc c nd) dO kn wg (zBG B dead hts w h) ∧ (∀ cd, cd < 1024 → D cd = 0) ∧ kH ub sa V D P = ub ∧ (∀ x, ¬ kFp so la sa x → ub.2.2 x = u.2.2 x) ∧ ub.1 = u.1 ∧ ub.2.1 = u.2.1 := by
  obtain ⟨⟨V0, h4⟩, ⟨D0, h5⟩, ⟨P0, h6⟩, ⟨S0, h7⟩, C0, h8⟩ := hA
  have l0 := hL.1
  have hn := hL.2.2.2.1
  have b5 := hB.2.2.2.2.2.1
  have hnd := hL.2.2.2.2.1
  have n0 : la 0 ≠ so := u_nrr l0 hso (by decide)
  have n05 : la 0 ≠ sa 5 := Ne.symm (u_nlr h5 l0)
  have ns5 : so ≠ sa 5 := Ne.symm (u_nlr h5 hso)
  have l0' : ∀ e, (uSet u so e).2.2 (la 0) = some (.inr (12, bF la bk w h v8 v9 v10)) := fun e => (u_sn n0).trans l0
  have h5' : ∀ e, (uSet u so e).2.2 (sa 5) = some (.inl (2, 1024, .inl D0)) := fun e => (u_sn (u_nlr h5 hso)).trans h5
  obtain ⟨D, r1, r2⟩ := c_fill (N := N) (g := g) (u := uSet u so (.inr (1, [.ref (la 0), .int (iI go), .int (iI n), .ref ja, .ref (sa 4), .ref (sa 5), .ref (sa 6), .ref (sa 7), .ref (sa 8)]))) (h5' _) hk.1.2.1 (by omega) (by omega)
  have hO1 : vSo (uSet u so (.inr (1, [.ref (la 0), .int (iI go), .int (iI n), .ref ja, .ref (sa 4), .ref (sa 5), .ref (sa 6), .ref (sa 7), .ref (sa 8)]))) so (la 0) go n (.ref ja) sa := u_ss
  have hL1 := hL.keep (u_kpR (e' := .inr (1, [.ref (la 0), .int (iI go), .int (iI n), .ref ja, .ref (sa 4), .ref (sa 5), .ref (sa 6), .ref (sa 7), .ref (sa 8)])) hso (by decide))
  have vB1 := vB.same (uSame.set (e := .inr (1, [.ref (la 0), .int (iI go), .int (iI n), .ref ja, .ref (sa 4), .ref (sa 5), .ref (sa 6), .ref (sa 7), .ref (sa 8)])) hb ho.1)
  have h51 := h5' (.inr (1, [.ref (la 0), .int (iI go), .int (iI n), .ref ja, .ref (sa 4), .ref (sa 5), .ref (sa 6), .ref (sa 7), .ref (sa 8)]))
  have keep1 : ∀ x, x ≠ so → (uSet u so (.inr (1, [.ref (la 0), .int (iI go), .int (iI n), .ref ja, .ref (sa 4), .ref (sa 5), .ref (sa 6), .ref (sa 7), .ref (sa 8)]))).2.2 x = u.2.2 x := fun x hx => u_sn hx
  have sz : (uSet u so (.inr (1, [.ref (la 0), .int (iI go), .int (iI n), .ref ja, .ref (sa 4), .ref (sa 5), .ref (sa 6), .ref (sa 7), .ref (sa 8)]))).1 = u.1 ∧ (uSet u so (.inr (1, [.ref (la 0), .int (iI go), .int (iI n), .ref ja, .ref (sa 4), .ref (sa 5), .ref (sa 6), .ref (sa 7), .ref (sa 8)]))).2.1 = u.2.1 := ⟨rfl, rfl⟩
  have walk : ∀ (X : Option (Option Nat × UH)), ((f_J10_fill_2 N b g (uSet u so (.inr (1, [.ref (la 0), .int (iI go), .int (iI n), .ref ja, .ref (sa 4), .ref (sa 5), .ref (sa 6), .ref (sa 7), .ref (sa 8)]))) (some (sa 5)) 0).bind fun u11 => f_X2_begin_35 N b g so N u11 (some (la 0)) (iI dead) 0) = X → f_X2_begin N b g u so (some (la 0)) (iI go) (iI dead) (some ja) = X := fun X hX => by
    have ew : iI (w : Int) * iI (h : Int) = iI (n : Int) := by
      rw [i_mul, hn]
      congr 1
    unfold f_X2_begin f_X14_cells
    rw [u_pw hso hb (Nat.le_of_ble_eq_true rfl), p_bs, u_pw u_ss hb (Nat.le_of_ble_eq_true rfl), p_bs, u_s2, u_pw u_ss hb (Nat.le_of_ble_eq_true rfl), p_bs, u_s2, p_bs, if_pos (v_is (l0' _)), v_gi (l0' _) (k := 1) rfl, p_bs, v_gi (l0' _) (k := 2) rfl, p_bs, q_uc, ew, u_pw u_ss hb (Nat.le_of_ble_eq_true rfl), p_bs, u_s2, v_gr u_ss (k := 5) rfl, p_bs]
    exact hX
  generalize uSet u so (.inr (1, [.ref (la 0), .int (iI go), .int (iI n), .ref ja, .ref (sa 4), .ref (sa 5), .ref (sa 6), .ref (sa 7), .ref (sa 8)])) = u1 at *
  have l1 : u1.2.2 (la 0) = some (.inr (12, bF la bk w h v8 v9 v10)) := (keep1 _ n0).trans l0
  have h41 := (keep1 _ (u_nlr h4 hso)).trans h4
  have h61 := (keep1 _ (u_nlr h6 hso)).trans h6
  have h71 := (keep1 _ (u_nlr h7 hso)).trans h7
  have h81 := (keep1 _ (u_nlr h8 hso)).trans h8
  have hJ1 : (mean = 0 ∧ u1.2.2 ja = some (.inr (15, []))) ∨ (mean = 1 ∧ u1.2.2 ja = some (.inr (14, []))) := by
    rcases hJ with ⟨q1, q2⟩ | ⟨q1, q2⟩
    · exact Or.inl ⟨q1, (keep1 _ (u_nrr q2 hso (by decide))).trans q2⟩
    · exact Or.inr ⟨q1, (keep1 _ (u_nrr q2 hso (by decide))).trans q2⟩
  have hO2 : vSo (uSet u1 (sa 5) (.inl (2, 1024, .inl D))) so (la 0) go n (.ref ja) sa := (u_sn ns5).trans hO1
  have hL2 := hL1.keep (u_kpL (e' := .inl (2, 1024, .inl D)) h51 (by decide))
  have vB2 := vB1.same (uSame.set (e := .inl (2, 1024, .inl D)) hk.1.2.1 ho.2)
  have keep2 : ∀ x, x ≠ sa 5 → (uSet u1 (sa 5) (.inl (2, 1024, .inl D))).2.2 x = u1.2.2 x := fun x hx => u_sn hx
  have h52 : (uSet u1 (sa 5) (.inl (2, 1024, .inl D))).2.2 (sa 5) = some (.inl (2, 1024, .inl D)) := u_ss
  have sz2 : (uSet u1 (sa 5) (.inl (2, 1024, .inl D))).1 = u1.1 ∧ (uSet u1 (sa 5) (.inl (2, 1024, .inl D))).2.1 = u1.2.1 := ⟨rfl, rfl⟩
  have walk2 : ∀ (X : Option (Option Nat × UH)), f_X2_begin_35 N b g so N (uSet u1 (sa 5) (.inl (2, 1024, .inl D))) (some (la 0)) (iI dead) 0 = X → f_X2_begin N b g u so (some (la 0)) (iI go) (iI dead) (some ja) = X := fun X hX => walk X (by
    rw [r1, p_bs]
    exact hX)
  generalize uSet u1 (sa 5) (.inl (2, 1024, .inl D)) = u2 at *
  have l2 : u2.2.2 (la 0) = some (.inr (12, bF la bk w h v8 v9 v10)) := (keep2 _ n05).trans l1
  have h42 := (keep2 _ hk.2.1).trans h41
  have h62 := (keep2 _ (Ne.symm hk.2.2.2)).trans h61
  have h72 := (keep2 _ (u_nll h71 h51 (Or.inl (by decide)))).trans h71
  have h82 := (keep2 _ (u_nll h81 h51 (Or.inl (by decide)))).trans h81
  have hJ2 : (mean = 0 ∧ u2.2.2 ja = some (.inr (15, []))) ∨ (mean = 1 ∧ u2.2.2 ja = some (.inr (14, []))) := by
    rcases hJ1 with ⟨q1, q2⟩ | ⟨q1, q2⟩
    · exact Or.inl ⟨q1, (keep2 _ (Ne.symm (u_nlr h51 q2))).trans q2⟩
    · exact Or.inr ⟨q1, (keep2 _ (Ne.symm (u_nlr h51 q2))).trans q2⟩
  have hi2 : bIs u2 la sa := ⟨⟨_, l2⟩, ⟨_, h72⟩, _, h82⟩
  obtain ⟨S, C, u8, u9, u10, s1, s2, -, -⟩ := b_35 (N := N) hk2 hi2 hO2 hL2 vB2 hB hdr hdc hcd (by omega) N 0 S0 C0 v8 v9 v10 (by omega) (by have := Nat.mul_le_mul hL.2.1.2 hL.2.2.1.2; omega)
  rw [bH_id l2 h72 h82] at s1
  have h43 : (bH u2 la sa (bF la bk w h u8 u9 u10) S C).2.2 (sa 4) = _ := bH_l hi2 h42 (Or.inl (by decide)) (Or.inl (by decide))
  have h53 : (bH u2 la sa (bF la bk w h u8 u9 u10) S C).2.2 (sa 5) = _ := bH_l hi2 h52 (Or.inl (by decide)) (Or.inl (by decide))
  have h63 : (bH u2 la sa (bF la bk w h u8 u9 u10) S C).2.2 (sa 6) = _ := bH_l hi2 h62 (Or.inl (by decide)) (Or.inl (by decide))
  have kid := kH_id h43 h53 h63
  refine ⟨bH u2 la sa (bF la bk w h u8 u9 u10) S C, V0, D, P0, u8, u9, u10, ?_, ⟨bH_r hi2 hO2 (by decide), hL2.bH hk2 hi2, ⟨⟨_, h43⟩, ⟨_, h53⟩, _, h63⟩, ⟨C, bH_8 hk2, fun c y q hc hy hq => (s2 c (by omega) hc).2 y q hy hq⟩, ⟨S, bH_7 hk2, fun c hc => ⟨(s2 c (by omega) hc).1, ?_⟩⟩, by omega, hfl, fun e k he hk' => ?_, fun c y q hc hy hq => ?_, ?_⟩, r2, kid, fun x hx => ?_, ?_, ?_⟩
  · rw [kid]
    exact walk2 _ s1
  · exact Nat.lt_of_lt_of_le (zNb_lt nd) (Nat.pow_le_pow_right (by decide) hnd)
  · obtain ⟨q1, q2⟩ := zKd_ok hk'
    exact hwg e _ he q1 q2
  · unfold zBG
    by_cases h0 : bWhy B dead hts w h c y q = 0
    · rw [if_pos h0]
      have := bCost_b hB hdr hq h0
      omega
    · rw [if_neg h0]
      omega
  · rcases hJ2 with ⟨q1, q2⟩ | ⟨q1, q2⟩
    · exact Or.inl ⟨q1, bH_r hi2 q2 (by decide)⟩
    · exact Or.inr ⟨q1, bH_r hi2 q2 (by decide)⟩
  · unfold kFp at hx
    rw [bH_n (fun z => hx (by rw [z]; simp)) (fun z => hx (by rw [z]; simp)) (fun z => hx (by rw [z]; simp)), keep2 x (fun z => hx (by rw [z]; simp)), keep1 x (fun z => hx (by rw [z]; simp))]
  · exact sz2.1.trans sz.1
  · exact sz2.2.trans sz.2
