/-! BY gen_law5.py: PLAIN: the law, all calls -/
section O5s
variable {N b : Nat} {g : uEnv} {A : pA} {ad sa : Nat → Nat} {u0 u : UH} {ou sc L k n : Nat} {sx : Nat → Int32} {lab : Nat → Nat} {σ : MS}
theorem lw_none (hst : uStart b g u0 sc L sx) (hL : L ≤ 384) (hk : k + 6 ≤ L) (hop : ∀ j : Nat, j ≤ 35 → sx k &&& 63 ≠ iI j) (hp : pSh A u σ) (h : xSt b g A ad sa (qA g (ad 4) b u0 ou) u lab σ) : ∃ (u' : UH) (σ' : MS) (dc ds : Nat), f_L_law_23 N b g (n + 1) u (some sc) (some (ad 0)) (some A.1) (some ou) (iI k) = f_L_law_23 N b g n u' (some sc) (some (ad 0)) (some A.1) (some ou) (iI ((k + 6 : Nat) : Int)) ∧ lSh b g A ad sa (qA g (ad 4) b u0 ou) u' σ' ∧ u'.1 = u.1 + dc ∧ u'.2.1 = u.2.1 + ds ∧ lStep N σ (sx k &&& 63) (sx (k + 1)) (sx (k + 2)) (sx (k + 3)) (sx (k + 4)) (sx (k + 5)) σ' dc ds := by
  have l0 := lw_ld hst hL h (j := k) (by omega)
  have n0 : ¬ sx k &&& 63 = 0 := hop 0 (by decide)
  have n1 : ¬ sx k &&& 63 = 1 := hop 1 (by decide)
  have n2 : ¬ sx k &&& 63 = 2 := hop 2 (by decide)
  have n3 : ¬ sx k &&& 63 = 3 := hop 3 (by decide)
  have n4 : ¬ sx k &&& 63 = 4 := hop 4 (by decide)
  have n5 : ¬ sx k &&& 63 = 5 := hop 5 (by decide)
  have n6 : ¬ sx k &&& 63 = 6 := hop 6 (by decide)
  have n7 : ¬ sx k &&& 63 = 7 := hop 7 (by decide)
  have n8 : ¬ sx k &&& 63 = 8 := hop 8 (by decide)
  have n9 : ¬ sx k &&& 63 = 9 := hop 9 (by decide)
  have n10 : ¬ sx k &&& 63 = 10 := hop 10 (by decide)
  have n11 : ¬ sx k &&& 63 = 11 := hop 11 (by decide)
  have n12 : ¬ sx k &&& 63 = 12 := hop 12 (by decide)
  have n13 : ¬ sx k &&& 63 = 13 := hop 13 (by decide)
  have n14 : ¬ sx k &&& 63 = 14 := hop 14 (by decide)
  have n15 : ¬ sx k &&& 63 = 15 := hop 15 (by decide)
  have n16 : ¬ sx k &&& 63 = 16 := hop 16 (by decide)
  have n17 : ¬ sx k &&& 63 = 17 := hop 17 (by decide)
  have n18 : ¬ sx k &&& 63 = 18 := hop 18 (by decide)
  have n19 : ¬ sx k &&& 63 = 19 := hop 19 (by decide)
  have n20 : ¬ sx k &&& 63 = 20 := hop 20 (by decide)
  have n21 : ¬ sx k &&& 63 = 21 := hop 21 (by decide)
  have n22 : ¬ sx k &&& 63 = 22 := hop 22 (by decide)
  have n23 : ¬ sx k &&& 63 = 23 := hop 23 (by decide)
  have n24 : ¬ sx k &&& 63 = 24 := hop 24 (by decide)
  have n25 : ¬ sx k &&& 63 = 25 := hop 25 (by decide)
  have n26 : ¬ sx k &&& 63 = 26 := hop 26 (by decide)
  have n27 : ¬ sx k &&& 63 = 27 := hop 27 (by decide)
  have n28 : ¬ sx k &&& 63 = 28 := hop 28 (by decide)
  have n29 : ¬ sx k &&& 63 = 29 := hop 29 (by decide)
  have n30 : ¬ sx k &&& 63 = 30 := hop 30 (by decide)
  have n31 : ¬ sx k &&& 63 = 31 := hop 31 (by decide)
  have n32 : ¬ sx k &&& 63 = 32 := hop 32 (by decide)
  have n33 : ¬ sx k &&& 63 = 33 := hop 33 (by decide)
  have n34 : ¬ sx k &&& 63 = 34 := hop 34 (by decide)
  have n35 : ¬ sx k &&& 63 = 35 := hop 35 (by decide)
  refine ⟨u, σ, 0, 0, ?_, ⟨hp, lab, h⟩, rfl, rfl, ?_⟩
  · rw [f_L_law_23, p_bs, lw_len hst h, p_bs, show iI (L : Int) - 6 = iI ((L : Int) - 6) from by rw [show (6 : Int32) = iI 6 from rfl, i_sub], n_lt (by omega) (by omega) (by omega) (by omega) (by omega), l0, p_bs, if_neg n0, if_neg n1, if_neg n2, if_neg n3, if_neg n4, if_neg n5, if_neg n6, if_neg n7, if_neg n8, if_neg n9, if_neg n10, if_neg n11, if_neg n12, if_neg n13, if_neg n14, if_neg n15, if_neg n16, if_neg n17, if_neg n18, if_neg n19, if_neg n20, if_neg n21, if_neg n22, if_neg n23, if_neg n24, if_neg n25, if_neg n26, if_neg n27, if_neg n28, if_neg n29, if_neg n30, if_neg n31, if_neg n32, if_neg n33, if_neg n34, if_neg n35]
    unfold f_L_law_1593
    rw [p_let, lw_a6]
  · exact Or.inr (Or.inr (Or.inr (Or.inr (Or.inr (Or.inr (Or.inr (Or.inr (Or.inr (Or.inr (Or.inr (Or.inr (Or.inr (Or.inr (Or.inr (Or.inr (Or.inr (Or.inr (Or.inr (Or.inr (Or.inr (Or.inr (Or.inr (Or.inr (Or.inr (Or.inr (Or.inr (Or.inr (Or.inr (Or.inr (Or.inr (Or.inr (Or.inr (Or.inr (Or.inr (Or.inr (⟨hop, rfl, rfl, rfl⟩))))))))))))))))))))))))))))))))))))
theorem lw_any (hA : pGood b A) (hst : uStart b g u0 sc L sx) (hL : L ≤ 384) (hN : 200000000000000000 ≤ N) (hk : k + 6 ≤ L) (hp : pSh A u σ) (h : xSt b g A ad sa (qA g (ad 4) b u0 ou) u lab σ) : ∃ (u' : UH) (σ' : MS) (dc ds : Nat), f_L_law_23 N b g (n + 1) u (some sc) (some (ad 0)) (some A.1) (some ou) (iI k) = f_L_law_23 N b g n u' (some sc) (some (ad 0)) (some A.1) (some ou) (iI ((k + 6 : Nat) : Int)) ∧ lSh b g A ad sa (qA g (ad 4) b u0 ou) u' σ' ∧ u'.1 = u.1 + dc ∧ u'.2.1 = u.2.1 + ds ∧ lStep N σ (sx k &&& 63) (sx (k + 1)) (sx (k + 2)) (sx (k + 3)) (sx (k + 4)) (sx (k + 5)) σ' dc ds := by
  by_cases c0 : sx k &&& 63 = 0
  · exact lw_feed hA hst hL hN hk c0 hp h
  by_cases c1 : sx k &&& 63 = 1
  · exact lw_book hA hst hL hN hk c1 hp h
  by_cases c2 : sx k &&& 63 = 2
  · exact lw_plan hA hst hL hN hk c2 hp h
  by_cases c3 : sx k &&& 63 = 3
  · exact lw_fault hA hst hL hN hk c3 hp h
  by_cases c4 : sx k &&& 63 = 4
  · exact lw_where hA hst hL hN hk c4 hp h
  by_cases c5 : sx k &&& 63 = 5
  · exact lw_sink hA hst hL hN hk c5 hp h
  by_cases c6 : sx k &&& 63 = 6
  · exact lw_grip hA hst hL hN hk c6 hp h
  by_cases c7 : sx k &&& 63 = 7
  · exact lw_dead hA hst hL hN hk c7 hp h
  by_cases c8 : sx k &&& 63 = 8
  · exact lw_map hA hst hL hN hk c8 hp h
  by_cases c9 : sx k &&& 63 = 9
  · exact lw_height hA hst hL hN hk c9 hp h
  by_cases c10 : sx k &&& 63 = 10
  · exact lw_ground hA hst hL hN hk c10 hp h
  by_cases c11 : sx k &&& 63 = 11
  · exact lw_doubt hA hst hL hN hk c11 hp h
  by_cases c12 : sx k &&& 63 = 12
  · exact lw_weigh hA hst hL hN hk c12 hp h
  by_cases c13 : sx k &&& 63 = 13
  · exact lw_told hA hst hL hN hk c13 hp h
  by_cases c14 : sx k &&& 63 = 14
  · exact lw_forget hA hst hL hN hk c14 hp h
  by_cases c15 : sx k &&& 63 = 15
  · exact lw_of hA hst hL hN hk c15 hp h
  by_cases c16 : sx k &&& 63 = 16
  · exact lw_step hA hst hL hN hk c16 hp h
  by_cases c17 : sx k &&& 63 = 17
  · exact lw_worst hA hst hL hN hk c17 hp h
  by_cases c18 : sx k &&& 63 = 18
  · exact lw_mean hA hst hL hN hk c18 hp h
  by_cases c19 : sx k &&& 63 = 19
  · exact lw_way hA hst hL hN hk c19 hp h
  by_cases c20 : sx k &&& 63 = 20
  · exact lw_truths hA hst hL hN hk c20 hp h
  by_cases c21 : sx k &&& 63 = 21
  · exact lw_truth hA hst hL hN hk c21 hp h
  by_cases c22 : sx k &&& 63 = 22
  · exact lw_run hA hst hL hN hk c22 hp h
  by_cases c23 : sx k &&& 63 = 23
  · exact lw_led hA hst hL hN hk c23 hp h
  by_cases c24 : sx k &&& 63 = 24
  · exact lw_regret hA hst hL hN hk c24 hp h
  by_cases c25 : sx k &&& 63 = 25
  · exact lw_worth hA hst hL hN hk c25 hp h
  by_cases c26 : sx k &&& 63 = 26
  · exact lw_spared hA hst hL hN hk c26 hp h
  by_cases c27 : sx k &&& 63 = 27
  · exact lw_failing hA hst hL hN hk c27 hp h
  by_cases c28 : sx k &&& 63 = 28
  · exact lw_first hA hst hL hN hk c28 hp h
  by_cases c29 : sx k &&& 63 = 29
  · exact lw_costs hA hst hL hN hk c29 hp h
  by_cases c30 : sx k &&& 63 = 30
  · exact lw_dig hA hst hL hN hk c30 hp h
  by_cases c31 : sx k &&& 63 = 31
  · exact lw_out hA hst hL hN hk c31 hp h
  by_cases c32 : sx k &&& 63 = 32
  · exact lw_tryAt hA hst hL hN hk c32 hp h
  by_cases c33 : sx k &&& 63 = 33
  · exact lw_make hA hst hL hN hk c33 hp h
  by_cases c34 : sx k &&& 63 = 34
  · exact lw_count hA hst hL hN hk c34 hp h
  by_cases c35 : sx k &&& 63 = 35
  · exact lw_trouble hA hst hL hN hk c35 hp h
  refine lw_none hst hL hk (fun j hj => ?_) hp h
  match j, hj with
  | 0, _ => exact c0
  | 1, _ => exact c1
  | 2, _ => exact c2
  | 3, _ => exact c3
  | 4, _ => exact c4
  | 5, _ => exact c5
  | 6, _ => exact c6
  | 7, _ => exact c7
  | 8, _ => exact c8
  | 9, _ => exact c9
  | 10, _ => exact c10
  | 11, _ => exact c11
  | 12, _ => exact c12
  | 13, _ => exact c13
  | 14, _ => exact c14
  | 15, _ => exact c15
  | 16, _ => exact c16
  | 17, _ => exact c17
  | 18, _ => exact c18
  | 19, _ => exact c19
  | 20, _ => exact c20
  | 21, _ => exact c21
  | 22, _ => exact c22
  | 23, _ => exact c23
  | 24, _ => exact c24
  | 25, _ => exact c25
  | 26, _ => exact c26
  | 27, _ => exact c27
  | 28, _ => exact c28
  | 29, _ => exact c29
  | 30, _ => exact c30
  | 31, _ => exact c31
  | 32, _ => exact c32
  | 33, _ => exact c33
  | 34, _ => exact c34
  | 35, _ => exact c35
  | j + 36, hj => exact absurd hj (by omega)
/-- so many calls, what they take -/
def lRun (P : MS → Prop) (N : Nat) (sx : Nat → Int32) : Nat → Nat → MS → Nat → Nat → Prop
  | 0, _, σ, c, s => P σ ∧ c = 0 ∧ s = 0
  | m + 1, k, σ, c, s => P σ ∧ ∃ (σ' : MS) (dc ds c' s' : Nat), lStep N σ (sx k &&& 63) (sx (k + 1)) (sx (k + 2)) (sx (k + 3)) (sx (k + 4)) (sx (k + 5)) σ' dc ds ∧ lRun P N sx m (k + 6) σ' c' s' ∧ c = dc + c' ∧ s = ds + s'
theorem lw_loop (hA : pGood b A) (hst : uStart b g u0 sc L sx) (hL : L ≤ 384) (hN : 200000000000000000 ≤ N) : ∀ (m k n : Nat) (u : UH) (σ : MS), k + 6 * m ≤ L → L < k + 6 * m + 6 → m < n → lSh b g A ad sa (qA g (ad 4) b u0 ou) u σ → ∃ (uf : UH) (c s : Nat), f_L_law_23 N b g n u (some sc) (some (ad 0)) (some A.1) (some ou) (iI k) = some (1, uf) ∧ lRun (fun σ => ∃ (U : UH) (lab : Nat → Nat), xSt b g A ad sa (qA g (ad 4) b u0 ou) U lab σ) N sx m k σ c s ∧ uf.1 = u.1 + c ∧ uf.2.1 = u.2.1 + s := by
  intro m
  induction m with
  | zero =>
    intro k n u σ h1 h2 h3 ⟨hp, lab, h⟩
    obtain ⟨n', rfl⟩ : ∃ z, n = z + 1 := ⟨n - 1, by omega⟩
    refine ⟨u, 0, 0, ?_, ⟨⟨u, lab, h⟩, rfl, rfl⟩, rfl, rfl⟩
    rw [f_L_law_23, p_bs, lw_len hst h, p_bs, show iI (L : Int) - 6 = iI ((L : Int) - 6) from by rw [show (6 : Int32) = iI 6 from rfl, i_sub], p_lt (by omega) (by omega) (by omega) (by omega) (by omega)]
  | succ m ih =>
    intro k n u σ h1 h2 h3 ⟨hp, lab, h⟩
    obtain ⟨n', rfl⟩ : ∃ z, n = z + 1 := ⟨n - 1, by omega⟩
    obtain ⟨u', σ', dc, ds, e1, e2, e3, e4, e5⟩ := lw_any (k := k) (n := n') hA hst hL hN (by omega) hp h
    obtain ⟨uf, c, s, f1, f2, f3, f4⟩ := ih (k + 6) n' u' σ' (by omega) (by omega) (by omega) e2
    exact ⟨uf, dc + c, ds + s, e1.trans f1, ⟨⟨u, lab, h⟩, σ', dc, ds, c, s, e5, f2, rfl, rfl⟩, by omega, by omega⟩
end O5s
