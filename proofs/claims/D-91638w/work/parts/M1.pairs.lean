/-! PLAIN: the pairs of a line are read, of both -/
theorem q_xv1 {β : Type} {x : Nat} {u : UH} {k : Nat → UH → Option β} {f : UH → Option β} : uxcallv (some (.inl (x, u))) k f = k x u := rfl
theorem q_xv2 {β : Type} {u : UH} {k : Nat → UH → Option β} {f : UH → Option β} : uxcallv (some (.inr u)) k f = f u := rfl
theorem i_ad {a c : Int} {x : Int} (h : a + c = x) : iI a + iI c = iI x := by
  rw [i_add, h]
theorem rSt.b {b : Nat} {g : uEnv} {lo rd tp n : Nat} {T : Nat → Nat} {U U' : UH} {σ σ' : MS} {at' at2 : Nat} (h : rSt b g lo rd tp n T U σ at' U' σ' at2) : mSm tS tR σ σ' := by
  obtain ⟨-, -, -, -, -, a4, a5, a6, a7, a8, r, e⟩ := h
  rw [e]
  exact mEk.tok.b
def pW (rd li p1 p2 : Nat) (x : Nat) : Prop := x = rd ∨ x = li ∨ x = p1 ∨ x = p2
section J1s
variable {N b : Nat} {g : uEnv} {lo rd tp n : Nat} {T : Nat → Nat} {li p1 p2 nG rz j1 : Nat} {hA hV : Int}
/-- one pair -/
theorem k_pr1 (hz : (rz = 0 ∧ hA = 90 ∧ hV = 150) ∨ (rz = 1 ∧ hA = 999 ∧ hV = 300)) (hj : mLen j1 = 64 ∧ (j1 = 20 ∨ j1 = 21)) (hG : nG < 8) (hN : 2000 ≤ N) (l1 : lo ≤ li) (l2 : lo ≤ p1) (l3 : lo ≤ p2) (hp : p1 ≠ p2) {c m m' : Nat} {U : UH} {σ : MS} {at' : Nat} {at_ v : Nat → Int} {f1 f2 : Nat → Int32} (hc4 : c ≤ 4) (h : rCx b g lo rd tp n T U σ at') (h22 : σ.1 22 = iI nG) (e0 : U.2.2 li = some (.inr (7, [.ref p1, .ref p2, .int (iI c)]))) (e1 : U.2.2 p1 = some (.inl (0, 4, .inl f1))) (e2 : U.2.2 p2 = some (.inl (0, 4, .inl f2))) (hf : ∀ k, k < c → f1 k = iI (at_ k) ∧ f2 k = iI (v k) ∧ σ.2.1 j1 (8 * nG + 2 * k) = iI (at_ k) ∧ σ.2.1 j1 (8 * nG + 2 * k + 1) = iI (v k) ∧ 0 ≤ at_ k ∧ at_ k ≤ 999 ∧ 0 ≤ v k ∧ v k ≤ 300) : (∃ (x : Nat) (U' : UH) (σ' : MS) (r : Int32), f_X9_read_0 N b g li (m + 1) U (some rd) (iI hA) (iI hV) (iI rz) = some (.inl (x, U')) ∧ f_pairs_16 N j1 (m' + 1) σ (iI rz) (iI c) 1 = some (r, σ') ∧ rEx lo tS tR (4 * (n - at') + 1) (32 * (n - at') + 8) U σ x U' σ') ∨ (c < 4 ∧ ∃ (a w : Int) (U' : UH) (σ2 : MS) (at2 : Nat), (if c = 0 then 0 else at_ (c - 1) + 1) ≤ a ∧ a ≤ 999 ∧ 0 ≤ w ∧ w ≤ 300 ∧ f_X9_read_0 N b g li (m + 1) U (some rd) (iI hA) (iI hV) (iI rz) = ucall (f_X5_skips N b g U' rd (some (g.2.1 13))) (fun r9 u7 => f_X9_read_149 N b g li (f_X9_read_0 N b g li m) u7 (some rd) (iI hA) (iI hV) (iI rz) r9) ∧ f_pairs_16 N j1 (m' + 1) σ (iI rz) (iI c) 1 = (if (mArr (mArr σ2 j1 (8 * nG + 2 * c) (iI a)) j1 (8 * nG + 2 * c + 1) (iI w)).1 6 = 44 then f_pairs_209 N j1 (f_pairs_16 N j1 m') (mArr (mArr σ2 j1 (8 * nG + 2 * c) (iI a)) j1 (8 * nG + 2 * c + 1) (iI w)) (iI rz) (iI ((c + 1 : Nat) : Int)) 1 else f_pairs_209 N j1 (f_pairs_16 N j1 m') (mArr (mArr σ2 j1 (8 * nG + 2 * c) (iI a)) j1 (8 * nG + 2 * c + 1) (iI w)) (iI rz) (iI ((c + 1 : Nat) : Int)) 0) ∧ rCx b g lo rd tp n T U' σ2 at2 ∧ U'.2.2 li = some (.inr (7, [.ref p1, .ref p2, .int (iI ((c + 1 : Nat) : Int))])) ∧ U'.2.2 p1 = some (.inl (0, 4, .inl (upd f1 c (iI a)))) ∧ U'.2.2 p2 = some (.inl (0, 4, .inl (upd f2 c (iI w)))) ∧ rKw lo (pW rd li p1 p2) U U' ∧ at' ≤ at2 ∧ U'.1 ≤ U.1 + 4 * (at2 - at') ∧ U'.2.1 ≤ U.2.1 + 32 * (at2 - at') ∧ mSm tS tR σ σ2) := by
  have h13 : σ.1 13 = 0 := h.2.2.2.2.2.2.2.2.2.1
  have ho : uOld U := h.2.2.2.2.2.1
  have hlo : b ≤ lo := h.2.2.2.2.2.2.1
  have hal := h.le
  obtain ⟨kr, st, va, wv, sg, c1, c2, -, -, k3, -, -, v3, -⟩ := k_kind h
  have nr0 : rd ≠ li := u_nrr c1 e0 (by decide)
  have nr1 : rd ≠ p1 := Ne.symm (u_nlr e1 c1)
  have nr2 : rd ≠ p2 := Ne.symm (u_nlr e2 c1)
  have nl1 : p1 ≠ li := u_nlr e1 e0
  have nl2 : p2 ≠ li := u_nlr e2 e0
  have hz01 : rz = 0 ∨ rz = 1 := by omega
  have ix : ∀ {i : Nat} {x : Int}, x = (i : Int) → i < 64 → mIn (iI x) (mLen j1) = true ∧ (iI x).toNatClampNeg = i := fun hx hi => t_ix hx (by rw [hj.1]; exact hi) (by rw [hj.1]; decide)
  obtain ⟨lA, hlA⟩ : ∃ lA : Int, lA = if c = 0 then 0 else at_ (c - 1) + 1 := ⟨_, rfl⟩
  have bA : 0 ≤ lA ∧ lA ≤ 1000 := by
    rw [hlA]
    by_cases z : c = 0
    · rw [if_pos z]
      omega
    · rw [if_neg z]
      have := hf (c - 1) (by omega)
      omega
  obtain ⟨id', hid⟩ : ∃ i : Nat, i = 8 * nG + 2 * (if 4 ≤ c then 3 else c) := ⟨_, rfl⟩
  have M : f_pairs_16 N j1 (m' + 1) σ (iI rz) (iI c) 1 = f_pairs_91 N j1 (f_pairs_16 N j1 m') σ (iI rz) (iI c) (iI id') (σ.1 4) (iI hA) (iI lA) := by
    have e68 : ∀ s : Int32, f_pairs_68 N j1 (f_pairs_16 N j1 m') σ (iI rz) (iI c) (iI id') s = f_pairs_91 N j1 (f_pairs_16 N j1 m') σ (iI rz) (iI c) (iI id') (σ.1 4) (iI hA) s := fun s => by
      unfold f_pairs_68
      rw [p_let]
      rcases hz with ⟨z1, z2, -⟩ | ⟨z1, z2, -⟩
      · rw [z1, z2, if_pos (show iI ((0 : Nat) : Int) = 0 from rfl)]
        rfl
      · rw [z1, z2, if_neg (show ¬ iI ((1 : Nat) : Int) = 0 from n10)]
        rfl
    have e39 : ∀ x : Int32, x = iI ((if 4 ≤ c then 3 else c : Nat) : Int) → f_pairs_39 N j1 (f_pairs_16 N j1 m') σ (iI rz) (iI c) x 2 (8 * iI nG) = f_pairs_91 N j1 (f_pairs_16 N j1 m') σ (iI rz) (iI c) (iI id') (σ.1 4) (iI hA) (iI lA) := fun x hx => by
      unfold f_pairs_39
      have ei : (8 : Int32) * iI (nG : Int) + 2 * x = iI (id' : Int) := by
        rw [hx, j8, i_mul, show (2 : Int32) = iI 2 from rfl, i_mul, i_add, hid]
        congr 1
      rw [ei, p_let]
      by_cases z : c = 0
      · rw [j0, p_eq (by omega) (by omega) (by omega) (by omega) (by omega), ← j0, e68, hlA, if_pos z]
        rfl
      · obtain ⟨t1, t2⟩ := ix (i := 8 * nG + 2 * (c - 1)) (x := ((8 * nG + 2 * (c - 1) : Nat) : Int)) rfl (by omega)
        have eq : ((8 * iI (nG : Int)) + (2 * iI (c : Int))) - 2 = iI ((8 * nG + 2 * (c - 1) : Nat) : Int) := by
          rw [j8, i_mul, show (2 : Int32) = iI 2 from rfl, i_mul, i_add, i_sub]
          congr 1
          omega
        rw [j0, n_eq (by omega) (by omega) (by omega) (by omega) (by omega), h22, eq, if_pos t1, p_let, t2, (hf (c - 1) (by omega)).2.2.1, show (1 : Int32) = iI 1 from rfl, i_add, e68, hlA, if_neg z]
    rw [f_pairs_16, if_neg n10, h22]
    by_cases z : 4 ≤ c
    · rw [show (4 : Int32) = iI 4 from rfl, p_le (by omega) (by omega) (by omega) (by omega) (by omega)]
      exact e39 3 (by rw [if_pos z]; rfl)
    · rw [show (4 : Int32) = iI 4 from rfl, n_le (by omega) (by omega) (by omega) (by omega) (by omega)]
      exact e39 (iI c) (by rw [if_neg z])
  have bh : (hA = 90 ∧ hV = 150) ∨ (hA = 999 ∧ hV = 300) := by omega
  have n13e : ∀ {s : MS}, s.1 13 = 1 → ¬ s.1 13 = 0 := fun e z => by
    rw [e] at z
    exact absurd z (by decide)
  rw [M, f_X9_read_0, p_bs, v_gr c1 (k := 5) rfl, p_bs, p_let]
  unfold f_pairs_91
  by_cases h6 : σ.1 6 = 3
  · obtain ⟨q, z1, z2, z3⟩ := v3 h6
    have C : (if some kr = g.1 3 then (uGI U li 7 2).bind fun y5 => if y5 = 0 then f_X9_read_40 N b g li (f_X9_read_0 N b g li m) U (some rd) (iI hA) (iI hV) (iI rz) 0 else (uGR U li 7 0).bind fun o7 => (uGI U li 7 2).bind fun y8 => (o7).bind fun a9 => (uLdI U a9 0 (y8 - 1)).bind fun y10 => f_X9_read_40 N b g li (f_X9_read_0 N b g li m) U (some rd) (iI hA) (iI hV) (iI rz) (y10 + 1) else if uIs U rd 4 = true then ucall (f_X5_fault N b g U rd 1) fun o14 u12 => f_X9_read_15 N b g li u12 o14 else none) = f_X9_read_40 N b g li (f_X9_read_0 N b g li m) U (some rd) (iI hA) (iI hV) (iI rz) (iI lA) := by
      rw [if_pos (k3.mp h6), v_gi e0 (k := 2) rfl, p_bs]
      by_cases z : c = 0
      · rw [j0, p_eq (by omega) (by omega) (by omega) (by omega) (by omega), hlA, if_pos z]
      · have L1 : uLdI U p1 0 (iI ((c - 1 : Nat) : Int)) = some (f1 (c - 1)) := u_ldI e1 (by omega) (by omega) (by omega)
        have ec : iI (c : Int) - 1 = iI ((c - 1 : Nat) : Int) := by
          rw [show (1 : Int32) = iI 1 from rfl, i_sub]
          congr 1
          omega
        rw [j0, n_eq (by omega) (by omega) (by omega) (by omega) (by omega), v_gr e0 (k := 0) rfl, p_bs, p_bs, p_bs, ec, L1, p_bs, (hf (c - 1) (by omega)).1, show (1 : Int32) = iI 1 from rfl, i_add, hlA, if_neg z]
    rw [C]
    unfold f_X9_read_40 f_number
    rw [if_pos h13, if_pos h6, p_bs, v_gi c1 (k := 4) rfl, p_bs, p_let, z1, z2]
    rcases k_in (N := N) (b := b) (g := g) (lo := lA) (hi := hA) ⟨by omega, by omega⟩ ⟨by omega, by omega⟩ (iI (q : Int)) U σ with ⟨g1, g2⟩ | ⟨g1, g2, i, g3, g4, g5⟩
    · obtain ⟨U', y1, y2⟩ := c_fault (N := N) (k := 4) h
      left
      refine ⟨U.1, U', mEr σ 4 (σ.1 4), iI c, ?_, ?_, y2.x⟩
      · unfold f_X9_read_60
        rw [g1, q_uc, if_pos rfl, if_pos (v_is c1), y1, q_uc, p_bs]
      · rw [g2, q_mc, if_pos rfl, m_wrong h13, q_mc, q_mc, if_neg (n13e (show (mEr σ 4 (σ.1 4)).1 13 = 1 from rfl)), m_pe rfl]
    · have eqi : iI (q : Int) = iI i := g3
      rw [g1, g2, q_uc, q_mc, if_neg n10, if_neg n10, v_gi e0 (k := 2) rfl, p_bs]
      by_cases hc : c = 4
      · obtain ⟨U', y1, y2⟩ := c_fault (N := N) (k := 5) h
        obtain ⟨U2, σ1, at2, w1, w2, w3⟩ := k_go (N := N) h (by rw [h6]; decide) hN
        have s13 : σ1.1 13 = 0 := w3.1.2.2.2.2.2.2.2.2.2.1
        left
        refine ⟨U.1, U', mEr σ1 5 (σ.1 4), iI c, ?_, ?_, ?_⟩
        · unfold f_X9_read_74
          rw [show (4 : Int32) = iI 4 from rfl, p_eq (by omega) (by omega) (by omega) (by omega) (by omega), if_pos (v_is c1), y1, q_uc, p_bs]
        · rw [w2, q_mv, q_mc, if_pos s13, show (4 : Int32) = iI 4 from rfl, p_eq (by omega) (by omega) (by omega) (by omega) (by omega), m_wrong s13, q_mc, m_pe rfl]
        · obtain ⟨k, p, a1, a2, a3, a4, a5, a6, a7, a8, a9, a10, a11⟩ := y2.x
          have a3 : (5 : Int32) = k := a3
          have a4 : σ.1 4 = p := a4
          exact ⟨k, p, a1, rfl, a3, a4, w3.b.trans mEk.er.b, a6, a7, a8, a9, a10, a11⟩
      · obtain ⟨U2, s1, s2, s3, s4, s5, s6⟩ := w_stI (b := b) (i := (c : Int)) (x := iI i) e1 (by omega) (by omega) (by omega) (by omega) ho
        have s2 : U2.2.2 p1 = some (.inl (0, 4, .inl (upd f1 c (iI i)))) := s2
        have kw2 : rKw lo (fun x => x = p1) U U2 := rKw.wr s3 rfl l2 e1 (Or.inr ⟨_, _, _, rfl, by decide⟩) s4 s5 s6
        have h2 : rCx b g lo rd tp n T U2 σ at' := h.kw kw2 nr1
        obtain ⟨U3, σ1, at2, w1, w2, w3⟩ := k_go (N := N) h2 (by rw [h6]; decide) hN
        have h3 := w3.1
        have s13 : σ1.1 13 = 0 := h3.2.2.2.2.2.2.2.2.2.1
        have o2 : uOld U2 := s4
        obtain ⟨w3a, w3b, w3c, w3d, w3e, b4, b5, b6, b7, b8, br, w3f⟩ := id w3
        have kw3 : rKw lo (fun x => x = rd) U2 U3 := w3b.w rfl
        have e03 : U3.2.2 li = some (.inr (7, [.ref p1, .ref p2, .int (iI c)])) := kw3.at o2 ((s3 li (Ne.symm nl1)).trans e0) (by decide) (Ne.symm nr0)
        have e13 : U3.2.2 p1 = some (.inl (0, 4, .inl (upd f1 c (iI i)))) := kw3.ar o2 s2 (Ne.symm nr1)
        have e23 : U3.2.2 p2 = some (.inl (0, 4, .inl f2)) := kw3.ar o2 ((s3 p2 (Ne.symm hp)).trans e2) (Ne.symm nr2)
        have rw1 : σ1.2.1 j1 = σ.2.1 j1 := by
          rw [w3f]
          show (if j1 = 11 then br else σ.2.1 j1) = _
          rw [if_neg (by omega)]
        have s22 : σ1.1 22 = iI nG := by
          rw [w3f]
          exact h22
        obtain ⟨lV, hlV⟩ : ∃ lV : Int, lV = if rz = 0 ∨ c = 0 then 0 else v (c - 1) := ⟨_, rfl⟩
        have bV : 0 ≤ lV ∧ lV ≤ 300 := by
          rw [hlV]
          by_cases z : rz = 0 ∨ c = 0
          · rw [if_pos z]
            omega
          · rw [if_neg z]
            have := hf (c - 1) (by omega)
            omega
        have c1' := c1
        obtain ⟨kr3, st3, va3, wv3, sg3, d1, -⟩ := k_kind h3
        have C92 : f_X9_read_92 N b g li (f_X9_read_0 N b g li m) U3 (some rd) (iI hA) (iI hV) (iI rz) = f_X9_read_128 N b g li (f_X9_read_0 N b g li m) U3 (some rd) (iI hA) (iI hV) (iI rz) (iI lV) (some rd) (iI c) (some p2) := by
          unfold f_X9_read_92 f_X9_read_127
          rw [v_gr e03 (k := 1) rfl, p_bs, v_gi e03 (k := 2) rfl, p_bs]
          by_cases z : rz = 0
          · rw [j0, p_eq (by omega) (by omega) (by omega) (by omega) (by omega), hlV, if_pos (Or.inl z)]
          · rw [j0, n_eq (by omega) (by omega) (by omega) (by omega) (by omega), p_bs]
            by_cases z2 : c = 0
            · rw [p_le (by omega) (by omega) (by omega) (by omega) (by omega), hlV, if_pos (Or.inr z2)]
            · have L1 : uLdI U3 p2 0 (iI ((c - 1 : Nat) : Int)) = some (f2 (c - 1)) := u_ldI e23 (by omega) (by omega) (by omega)
              have ec : iI (c : Int) - 1 = iI ((c - 1 : Nat) : Int) := by
                rw [show (1 : Int32) = iI 1 from rfl, i_sub]
                congr 1
                omega
              rw [n_le (by omega) (by omega) (by omega) (by omega) (by omega), p_bs, p_bs, p_bs, ec, L1, p_bs, (hf (c - 1) (by omega)).2.1, hlV, if_neg (by omega)]
        have M116 : ∀ x8 : Int32, f_pairs_116 N j1 (f_pairs_16 N j1 m') σ1 (iI rz) (iI c) (iI id') x8 = f_pairs_164 N j1 (f_pairs_16 N j1 m') σ1 (iI rz) (iI c) (iI id') x8 (iI hV) (iI lV) := fun x8 => by
          have e151 : ∀ s : Int32, f_pairs_151 N j1 (f_pairs_16 N j1 m') σ1 (iI rz) (iI c) (iI id') x8 s = f_pairs_164 N j1 (f_pairs_16 N j1 m') σ1 (iI rz) (iI c) (iI id') x8 (iI hV) s := fun s => by
            unfold f_pairs_151
            rcases hz with ⟨z1, -, z2⟩ | ⟨z1, -, z2⟩
            · rw [z1, z2, if_pos (show iI ((0 : Nat) : Int) = 0 from rfl)]
              rfl
            · rw [z1, z2, if_neg (show ¬ iI ((1 : Nat) : Int) = 0 from n10)]
              rfl
          unfold f_pairs_116 f_pairs_150
          by_cases z : rz = 0
          · rw [j0, p_eq (by omega) (by omega) (by omega) (by omega) (by omega), e151, hlV, if_pos (Or.inl z)]
          · rw [j0, n_eq (by omega) (by omega) (by omega) (by omega) (by omega)]
            by_cases z2 : c = 0
            · rw [p_le (by omega) (by omega) (by omega) (by omega) (by omega), e151, hlV, if_pos (Or.inr z2)]
            · obtain ⟨t1, t2⟩ := ix (i := 8 * nG + 2 * (c - 1) + 1) (x := ((8 * nG + 2 * (c - 1) + 1 : Nat) : Int)) rfl (by omega)
              have eq : ((8 * iI (nG : Int)) + (2 * iI (c : Int))) - 1 = iI ((8 * nG + 2 * (c - 1) + 1 : Nat) : Int) := by
                rw [j8, i_mul, show (2 : Int32) = iI 2 from rfl, i_mul, i_add, show (1 : Int32) = iI 1 from rfl, i_sub]
                congr 1
                omega
              rw [n_le (by omega) (by omega) (by omega) (by omega) (by omega), ← j0, if_pos s13, s22, eq, if_pos t1, p_let, t2, rw1, (hf (c - 1) (by omega)).2.2.2.1, e151, hlV, if_neg (by omega)]
        have eid : id' = 8 * nG + 2 * c := by
          rw [hid, if_neg (by omega)]
        rw [w2, q_mv, q_mc, if_pos s13, show (4 : Int32) = iI 4 from rfl, n_eq (by omega) (by omega) (by omega) (by omega) (by omega), n_eq (by omega) (by omega) (by omega) (by omega) (by omega), M116, v_gr e0 (k := 0) rfl, p_bs, p_bs, v_gi c1 (k := 4) rfl, p_bs, p_bs, z1, eqi, s1, p_bs, if_pos (v_is (show U2.2.2 rd = some (.inr (4, _)) from (s3 rd nr1).trans c1)), w1, p_bs, C92]
        unfold f_X9_read_128 f_pairs_164
        rw [p_bs, if_pos (v_is d1)]
        have wK : ∀ x, x = p1 → pW rd li p1 p2 x := fun x z => Or.inr (Or.inr (Or.inl z))
        have kU3 : rKw lo (pW rd li p1 p2) U U3 := (kw2.mono (fun x _ z => wK x z)).trans (kw3.mono (fun x _ z => Or.inl (Or.inl z)))
        rcases k_number (N := N) (a := lV) (c := hV) h3 (by omega) (by omega) hN with ⟨q2, U4, σ2, at3, y1, y2, y3, y4, y5⟩ | ⟨x, U4, σ2, y1, y2, y3⟩
        · right
          have h4 := y5.1
          have t13 : σ2.1 13 = 0 := h4.2.2.2.2.2.2.2.2.2.1
          obtain ⟨y5a, y5b, y5c, y5d, y5e, -⟩ := id y5
          have o3 : uOld U3 := h3.2.2.2.2.2.1
          have kw4 : rKw lo (fun x => x = rd) U3 U4 := y5b.w rfl
          have e04 := kw4.at o3 e03 (by decide) (Ne.symm nr0)
          have e14 := kw4.ar o3 e13 (Ne.symm nr1)
          have e24 := kw4.ar o3 e23 (Ne.symm nr2)
          have o4 : uOld U4 := h4.2.2.2.2.2.1
          obtain ⟨U5, u1, u2, u3, u4, u5, u6⟩ := w_stI (b := b) (i := (c : Int)) (x := iI q2) e24 (by omega) (by omega) (by omega) (by omega) o4
          have u2 : U5.2.2 p2 = some (.inl (0, 4, .inl (upd f2 c (iI q2)))) := u2
          have e05 : U5.2.2 li = some (.inr (7, [.ref p1, .ref p2, .int (iI c)])) := (u3 li (Ne.symm nl2)).trans e04
          obtain ⟨U6, x1, x2, x3, x4, x5, x6⟩ := w_put (b := b) (k := 2) (v := .int (iI ((c + 1 : Nat) : Int))) e05 (by omega) (Nat.le_of_ble_eq_true rfl) u4
          have x2 : U6.2.2 li = some (.inr (7, [.ref p1, .ref p2, .int (iI ((c + 1 : Nat) : Int))])) := x2
          have kw5 : rKw lo (fun x => x = p2) U4 U5 := rKw.wr u3 rfl l3 e24 (Or.inr ⟨_, _, _, rfl, by decide⟩) u4 u5 u6
          have kw6 : rKw lo (fun x => x = li) U5 U6 := rKw.wr x3 rfl l1 e05 (Or.inl ⟨_, _, rfl, by decide⟩) x4 x5 x6
          have h6' : rCx b g lo rd tp n T U6 σ2 at3 := (h4.kw kw5 nr2).kw kw6 nr0
          have ec : iI (c : Int) + 1 = iI ((c + 1 : Nat) : Int) := by
            rw [show (1 : Int32) = iI 1 from rfl, i_add]
            rfl
          obtain ⟨kr6, st6, va6, wv6, sg6, d6, -⟩ := k_kind h6'
          obtain ⟨t1, t2⟩ := ix (i := 8 * nG + 2 * c) (x := (id' : Int)) (by rw [eid]) (by omega)
          obtain ⟨t3, t4⟩ := ix (i := 8 * nG + 2 * c + 1) (x := ((8 * nG + 2 * c + 1 : Nat) : Int)) rfl (by omega)
          have ei1 : iI (id' : Int) + 1 = iI ((8 * nG + 2 * c + 1 : Nat) : Int) := by
            rw [show (1 : Int32) = iI 1 from rfl, i_add, eid]
            rfl
          have ks : rKw lo (pW rd li p1 p2) U U6 := (((kU3.trans (kw4.mono (fun x _ z => Or.inl (Or.inl z)))).trans (kw5.mono (fun x _ z => Or.inl (Or.inr (Or.inr (Or.inr z)))))).trans (kw6.mono (fun x _ z => Or.inl (Or.inr (Or.inl z)))))
          have n12 : at' ≤ at2 := w3c
          have n23 : at2 ≤ at3 := y5c
          refine ⟨by omega, i, q2, U6, σ2, at3, by rw [← hlA]; exact g4, by omega, by omega, by omega, ?_, ?_, h6', x2, ?_, ?_, ks, by omega, by omega, by omega, (w3.b).trans y5.b⟩
          · rw [y3, q_ux2]
            unfold f_X9_read_132
            rw [p_bs, u1, p_bs, v_gi e05 (k := 2) rfl, p_bs, ec, x1, p_bs, p_bs, if_pos (v_is d6)]
          · rw [y4, q_mc, if_pos t13, if_pos t1, p_let, t2, ei1, if_pos t3, p_let, t4, ec, p_let]
          · rw [x3 p1 nl1, u3 p1 hp]
            exact e14
          · rw [x3 p2 nl2]
            exact u2
        · left
          refine ⟨x, U4, σ2, iI c, ?_, ?_, ?_⟩
          · rw [y1, q_ux1]
          · obtain ⟨k, p, a1, a2, -⟩ := y3
            rw [y2, q_mc, if_neg (n13e a2)]
          · have n12 : at' ≤ at2 := w3c
            have n2 := h3.le
            exact y3.x.aft w3.b kU3.1 kU3.2.2.2.2.1 (by omega) kU3.2.2.2.2.2 (by omega)
  · obtain ⟨U', y1, y2⟩ := c_fault (N := N) (k := 1) h
    left
    refine ⟨U.1, U', mEr σ 1 (σ.1 4), iI c, ?_, ?_, y2.x⟩
    · unfold f_X9_read_15
      rw [if_neg (fun y => h6 (k3.mpr y)), if_pos (v_is c1), y1, q_uc, p_bs]
    · unfold f_number
      rw [if_pos h13, if_neg h6, m_wrong h13, q_mc, q_mc, if_neg (n13e (show (mEr σ 1 (σ.1 4)).1 13 = 1 from rfl)), m_pe rfl]
end J1s
