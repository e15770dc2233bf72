/-! PLAIN: a line is read, of both -/
theorem mArr_s {σ : MS} {j i : Nat} {x : Int32} : (mArr σ j i x).2.1 j = upd (σ.2.1 j) i x := if_pos rfl
theorem mArr_n {σ : MS} {j j' i : Nat} {x : Int32} (h : j' ≠ j) : (mArr σ j i x).2.1 j' = σ.2.1 j' := if_neg h
section J2s
variable {N b : Nat} {g : uEnv} {lo rd tp n : Nat} {T : Nat → Nat} {li p1 p2 nG rz j1 : Nat} {hA hV : Int}
/-- what is kept of a row while a ground is read -/
def oRw (j nG : Nat) (σ σ' : MS) : Prop := ∀ i, i < 8 * nG ∨ 8 * nG + 8 ≤ i → σ'.2.1 j i = σ.2.1 j i
theorem k_prs (hz : (rz = 0 ∧ hA = 90 ∧ hV = 150) ∨ (rz = 1 ∧ hA = 999 ∧ hV = 300)) (hj : mLen j1 = 64 ∧ (j1 = 20 ∨ j1 = 21)) (hG : nG < 8) (hN : 2000 ≤ N) (l1 : lo ≤ li) (l2 : lo ≤ p1) (l3 : lo ≤ p2) (hp : p1 ≠ p2) : ∀ (d c m m' : Nat) (U : UH) (σ : MS) (at' : Nat) (at_ v : Nat → Int) (f1 f2 : Nat → Int32), c + d = 4 → d + 3 ≤ m → d + 3 ≤ m' → rCx b g lo rd tp n T U σ at' → σ.1 22 = iI nG → U.2.2 li = some (.inr (7, [.ref p1, .ref p2, .int (iI c)])) → U.2.2 p1 = some (.inl (0, 4, .inl f1)) → U.2.2 p2 = some (.inl (0, 4, .inl f2)) → (∀ k, k < c → f1 k = iI (at_ k) ∧ f2 k = iI (v k) ∧ σ.2.1 j1 (8 * nG + 2 * k) = iI (at_ k) ∧ σ.2.1 j1 (8 * nG + 2 * k + 1) = iI (v k) ∧ 0 ≤ at_ k ∧ at_ k ≤ 999 ∧ 0 ≤ v k ∧ v k ≤ 300) → (∀ k, k + 1 < c → at_ k < at_ (k + 1)) → (∃ (x : Nat) (U' : UH) (σ' : MS) (r : Int32), f_X9_read_0 N b g li m U (some rd) (iI hA) (iI hV) (iI rz) = some (.inl (x, U')) ∧ f_pairs_16 N j1 m' σ (iI rz) (iI c) 1 = some (r, σ') ∧ rEx lo tS (fun j => j = 11 ∨ j = j1) (4 * (n - at') + 1) (32 * (n - at') + 8) U σ x U' σ' ∧ oRw j1 nG σ σ') ∨ (∃ (n' : Nat) (at_' v' : Nat → Int) (f1' f2' : Nat → Int32) (U' : UH) (σ' : MS) (at2 : Nat), f_X9_read_0 N b g li m U (some rd) (iI hA) (iI hV) (iI rz) = some (.inr U') ∧ f_pairs_16 N j1 m' σ (iI rz) (iI c) 1 = some (iI n', σ') ∧ lnOk at_' v' n' ∧ rCx b g lo rd tp n T U' σ' at2 ∧ U'.2.2 li = some (.inr (7, [.ref p1, .ref p2, .int (iI n')])) ∧ U'.2.2 p1 = some (.inl (0, 4, .inl f1')) ∧ U'.2.2 p2 = some (.inl (0, 4, .inl f2')) ∧ (∀ k, k < n' → f1' k = iI (at_' k) ∧ f2' k = iI (v' k) ∧ σ'.2.1 j1 (8 * nG + 2 * k) = iI (at_' k) ∧ σ'.2.1 j1 (8 * nG + 2 * k + 1) = iI (v' k)) ∧ rKw lo (pW rd li p1 p2) U U' ∧ at' ≤ at2 ∧ U'.1 ≤ U.1 + 4 * (at2 - at') ∧ U'.2.1 ≤ U.2.1 + 32 * (at2 - at') ∧ mSm tS (fun j => j = 11 ∨ j = j1) σ σ' ∧ oRw j1 nG σ σ') := by
  intro d
  induction d with
  | zero =>
    intro c m m' U σ at' at_ v f1 f2 hd hm hm' h h22 e0 e1 e2 hf hi
    obtain ⟨m, rfl⟩ : ∃ q, m = q + 1 := ⟨m - 1, by omega⟩
    obtain ⟨m', rfl⟩ : ∃ q, m' = q + 1 := ⟨m' - 1, by omega⟩
    rcases k_pr1 (m := m) (m' := m') hz hj hG hN l1 l2 l3 hp (c := c) (by omega) h h22 e0 e1 e2 hf with ⟨x, U', σ', r, y1, y2, y3⟩ | ⟨z, -⟩
    · refine Or.inl ⟨x, U', σ', r, y1, y2, y3.mono (fun _ z => z) (fun _ z => Or.inl z) (Nat.le_refl _) (Nat.le_refl _), fun i _ => ?_⟩
      obtain ⟨k, p, -, -, -, -, q, -⟩ := y3
      rw [q.2.1 j1 (fun z => by unfold tR at z; omega)]
    · omega
  | succ d ih =>
    intro c m m' U σ at' at_ v f1 f2 hd hm hm' h h22 e0 e1 e2 hf hi
    obtain ⟨m, rfl⟩ : ∃ q, m = q + 1 := ⟨m - 1, by omega⟩
    obtain ⟨m', rfl⟩ : ∃ q, m' = q + 1 := ⟨m' - 1, by omega⟩
    rcases k_pr1 (m := m) (m' := m') hz hj hG hN l1 l2 l3 hp (c := c) (by omega) h h22 e0 e1 e2 hf with ⟨x, U', σ', r, y1, y2, y3⟩ | ⟨z, a, w, U', σ2, at2, x1, x2, x3, x4, y1, y2, h2, d0, d1, d2, kw, t1, t2, t3, mb⟩
    · refine Or.inl ⟨x, U', σ', r, y1, y2, y3.mono (fun _ z => z) (fun _ z => Or.inl z) (Nat.le_refl _) (Nat.le_refl _), fun i _ => ?_⟩
      obtain ⟨k, p, -, -, -, -, q, -⟩ := y3
      rw [q.2.1 j1 (fun z => by unfold tR at z; omega)]
    · obtain ⟨σ3, hσ3⟩ : ∃ s : MS, s = mArr (mArr σ2 j1 (8 * nG + 2 * c) (iI a)) j1 (8 * nG + 2 * c + 1) (iI w) := ⟨_, rfl⟩
      rw [← hσ3] at y2
      have r2 : σ2.2.1 j1 = σ.2.1 j1 := mb.2.1 j1 (fun z => by unfold tR at z; omega)
      have r3 : σ3.2.1 j1 = upd (upd (σ.2.1 j1) (8 * nG + 2 * c) (iI a)) (8 * nG + 2 * c + 1) (iI w) := by
        rw [hσ3, mArr_s, mArr_s, r2]
      have rn : ∀ j, j ≠ j1 → σ3.2.1 j = σ2.2.1 j := fun j hj' => by
        rw [hσ3, mArr_n hj', mArr_n hj']
      have f3 : σ3.1 = σ2.1 := by rw [hσ3]; rfl
      have h3 : rCx b g lo rd tp n T U' σ3 at2 := h2.sg (fun k _ => by rw [f3]) (rn 1 (by omega)) (rn 11 (by omega))
      have mb3 : mSm tS (fun j => j = 11 ∨ j = j1) σ σ3 := by
        have i1 : 8 * nG + 2 * c < mLen j1 := by
          rw [hj.1]
          omega
        have i2 : 8 * nG + 2 * c + 1 < mLen j1 := by
          rw [hj.1]
          omega
        rw [hσ3]
        have q0 : mSm tS (fun j => j = 11 ∨ j = j1) σ σ2 := mb.mono (fun _ z => z) (fun _ z => Or.inl z)
        exact (q0.trans (mSm.arr (Or.inr rfl) i1)).trans (mSm.arr (Or.inr rfl) i2)
      have or3 : oRw j1 nG σ σ3 := fun i hi' => by
        rw [r3, upd_n (by omega), upd_n (by omega)]
      have hf' : ∀ k, k < c + 1 → upd f1 c (iI a) k = iI (if k = c then a else at_ k) ∧ upd f2 c (iI w) k = iI (if k = c then w else v k) ∧ σ3.2.1 j1 (8 * nG + 2 * k) = iI (if k = c then a else at_ k) ∧ σ3.2.1 j1 (8 * nG + 2 * k + 1) = iI (if k = c then w else v k) ∧ 0 ≤ (if k = c then a else at_ k) ∧ (if k = c then a else at_ k) ≤ 999 ∧ 0 ≤ (if k = c then w else v k) ∧ (if k = c then w else v k) ≤ 300 := fun k hk => by
        by_cases q : k = c
        · subst q
          have la : 0 ≤ a := by
            by_cases q0 : k = 0
            · rw [if_pos q0] at x1
              omega
            · rw [if_neg q0] at x1
              have := hf (k - 1) (by omega)
              omega
          rw [if_pos rfl, if_pos rfl, upd_s, upd_s, r3, upd_n (by omega), upd_s, upd_s]
          exact ⟨rfl, rfl, rfl, rfl, la, x2, x3, x4⟩
        · obtain ⟨q1, q2, q3, q4, q5⟩ := hf k (by omega)
          rw [if_neg q, if_neg q, upd_n q, upd_n q, r3, upd_n (by omega), upd_n (by omega), upd_n (by omega), upd_n (by omega)]
          exact ⟨q1, q2, q3, q4, q5⟩
      have hi' : ∀ k, k + 1 < c + 1 → (if k = c then a else at_ k) < (if k + 1 = c then a else at_ (k + 1)) := fun k hk => by
        rw [if_neg (by omega)]
        by_cases q : k + 1 = c
        · rw [if_pos q]
          rw [if_neg (by omega), show c - 1 = k by omega] at x1
          omega
        · rw [if_neg q]
          exact hi k (by omega)
      obtain ⟨s1, s2⟩ := k_skS (N := N) (j := 13) (c := 44) h3 (by decide) (by decide +kernel) (by unfold sgn; decide) hN
      have s22 : σ3.1 22 = iI nG := by
        rw [f3, mb.1 22 (fun z => by unfold tS at z; omega)]
        exact h22
      by_cases q : σ3.1 6 = 44
      · obtain ⟨U4, σ4, at3, w1, w2, w3⟩ := s1 q
        obtain ⟨w3a, w3b, w3c, w3d, w3e, b4, b5, b6, b7, b8, br, w3f⟩ := id w3
        have o3 : uOld U' := h3.2.2.2.2.2.1
        obtain ⟨kr, st, va, wv, sg, c1, -⟩ := k_kind h3
        have kw4 : rKw lo (fun x => x = rd) U' U4 := w3b.w rfl
        have e04 := kw4.at o3 d0 (by decide) (Ne.symm (u_nrr c1 d0 (by decide)))
        have e14 := kw4.ar o3 d1 (u_nlr d1 c1)
        have e24 := kw4.ar o3 d2 (u_nlr d2 c1)
        have r4 : σ4.2.1 j1 = σ3.2.1 j1 := w3.b.2.1 j1 (fun z => by unfold tR at z; omega)
        have ks : rKw lo (pW rd li p1 p2) U U4 := kw.trans (kw4.mono (fun x _ z => Or.inl (Or.inl z)))
        have cl : f_X9_read_0 N b g li (m + 1) U (some rd) (iI hA) (iI hV) (iI rz) = f_X9_read_0 N b g li m U4 (some rd) (iI hA) (iI hV) (iI rz) := by
          rw [y1, w1, q_uc]
          unfold f_X9_read_149
          rw [if_neg n10]
        have ml : f_pairs_16 N j1 (m' + 1) σ (iI rz) (iI c) 1 = f_pairs_16 N j1 m' σ4 (iI rz) (iI ((c + 1 : Nat) : Int)) 1 := by
          rw [y2, if_pos q]
          unfold f_pairs_209 f_pairs_220
          rw [if_neg n10, w2, q_mv]
        have mb4 : mSm tS (fun j => j = 11 ∨ j = j1) σ σ4 := mb3.trans (w3.b.mono (fun _ z => z) (fun _ z => Or.inl z))
        have or4 : oRw j1 nG σ σ4 := fun i hi'' => by
          rw [r4]
          exact or3 i hi''
        have n3 := w3a.le
        rcases ih (c + 1) m m' U4 σ4 at3 (fun k => if k = c then a else at_ k) (fun k => if k = c then w else v k) (upd f1 c (iI a)) (upd f2 c (iI w)) (by omega) (by omega) (by omega) w3a (by
          rw [w3.b.1 22 (fun z => by unfold tS at z; omega)]
          exact s22) e04 e14 e24 (fun k hk => by rw [r4]; exact hf' k hk) hi' with ⟨x, U5, σ5, r, v1, v2, v3, v4⟩ | ⟨n', at_', v', f1', f2', U5, σ5, at5, v1, v2, v3, v4, v5, v6, v7, v8, v9, v10, v11, v12, v13, v14⟩
        · refine Or.inl ⟨x, U5, σ5, r, by rw [cl]; exact v1, by rw [ml]; exact v2, v3.aft mb4 ks.1 ks.2.2.2.2.1 (by omega) ks.2.2.2.2.2 (by omega), fun i hi'' => (v4 i hi'').trans (or4 i hi'')⟩
        · exact Or.inr ⟨n', at_', v', f1', f2', U5, σ5, at5, by rw [cl]; exact v1, by rw [ml]; exact v2, v3, v4, v5, v6, v7, v8, ks.trans (v9.mono (fun x _ z => Or.inl z)), by omega, by omega, by omega, mb4.trans v13, fun i hi'' => (v14 i hi'').trans (or4 i hi'')⟩
      · obtain ⟨m', rfl⟩ : ∃ q, m' = q + 1 := ⟨m' - 1, by omega⟩
        refine Or.inr ⟨c + 1, fun k => if k = c then a else at_ k, fun k => if k = c then w else v k, upd f1 c (iI a), upd f2 c (iI w), U', σ3, at2, ?_, ?_, ⟨by omega, by omega, fun k hk => (hf' k hk).2.2.2.2, hi'⟩, h3, d0, d1, d2, fun k hk => ⟨(hf' k hk).1, (hf' k hk).2.1, (hf' k hk).2.2.1, (hf' k hk).2.2.2.1⟩, kw, t1, t2, t3, mb3, or3⟩
        · rw [y1, s2 q, q_uc]
          unfold f_X9_read_149
          rw [if_pos rfl]
        · rw [y2, if_neg q]
          unfold f_pairs_209 f_pairs_220
          rw [if_pos rfl, f_pairs_16, if_pos rfl]
/-- a line, whole -/
theorem k_line (hz : (rz = 0 ∧ hA = 90 ∧ hV = 150) ∨ (rz = 1 ∧ hA = 999 ∧ hV = 300)) (hj : mLen j1 = 64 ∧ (j1 = 20 ∨ j1 = 21)) (hG : nG < 8) (hN : 2000 ≤ N) (l1 : lo ≤ li) (l2 : lo ≤ p1) (l3 : lo ≤ p2) (hp : p1 ≠ p2) {U : UH} {σ : MS} {at' : Nat} {f1 f2 : Nat → Int32} (h : rCx b g lo rd tp n T U σ at') (h22 : σ.1 22 = iI nG) (e0 : U.2.2 li = some (.inr (7, [.ref p1, .ref p2, .int 0]))) (e1 : U.2.2 p1 = some (.inl (0, 4, .inl f1))) (e2 : U.2.2 p2 = some (.inl (0, 4, .inl f2))) : (∃ (x : Nat) (U' : UH) (σ' : MS) (r : Int32), f_X9_read N b g U li (some rd) (iI hA) (iI hV) (iI rz) = some (.inl (x, U')) ∧ f_pairs N j1 σ (iI rz) = some (r, σ') ∧ rEx lo tS (fun j => j = 11 ∨ j = j1) (4 * (n - at') + 1) (32 * (n - at') + 8) U σ x U' σ' ∧ oRw j1 nG σ σ') ∨ (∃ (n' : Nat) (at_' v' : Nat → Int) (f1' f2' : Nat → Int32) (U' : UH) (σ' : MS) (at2 : Nat), f_X9_read N b g U li (some rd) (iI hA) (iI hV) (iI rz) = some (.inr U') ∧ f_pairs N j1 σ (iI rz) = some (iI n', σ') ∧ lnOk at_' v' n' ∧ rCx b g lo rd tp n T U' σ' at2 ∧ U'.2.2 li = some (.inr (7, [.ref p1, .ref p2, .int (iI n')])) ∧ U'.2.2 p1 = some (.inl (0, 4, .inl f1')) ∧ U'.2.2 p2 = some (.inl (0, 4, .inl f2')) ∧ (∀ k, k < n' → f1' k = iI (at_' k) ∧ f2' k = iI (v' k) ∧ σ'.2.1 j1 (8 * nG + 2 * k) = iI (at_' k) ∧ σ'.2.1 j1 (8 * nG + 2 * k + 1) = iI (v' k)) ∧ rKw lo (pW rd li p1 p2) U U' ∧ at' ≤ at2 ∧ U'.1 ≤ U.1 + 4 * (at2 - at') ∧ U'.2.1 ≤ U.2.1 + 32 * (at2 - at') ∧ mSm tS (fun j => j = 11 ∨ j = j1) σ σ' ∧ oRw j1 nG σ σ') := by
  have h13 : σ.1 13 = 0 := h.2.2.2.2.2.2.2.2.2.1
  have := k_prs (N := N) hz hj hG hN l1 l2 l3 hp 4 0 N N U σ at' (fun _ => 0) (fun _ => 0) f1 f2 (by omega) (by omega) (by omega) h h22 e0 e1 e2 (fun k hk => by omega) (fun k hk => by omega)
  unfold f_X9_read f_pairs f_pairs_14
  rw [if_pos h13]
  exact this
end J2s
