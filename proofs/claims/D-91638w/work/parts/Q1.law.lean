/-! BY gen_law.py: PLAIN: the law, call by call -/
/-- one call, as the model has it, with the cells and slots that it takes -/
def lStep (N : Nat) (σ : MS) (o x1 x2 x3 x4 x5 : Int32) (σ' : MS) (dc ds : Nat) : Prop := (o = 0 ∧ (∃ r, f_feed N σ x1 x2 x3 x4 x5 = some (r, σ')) ∧ dc ≤ 1 ∧ ds ≤ 5) ∨ (o = 1 ∧ (∃ r, f_book N σ x1 = some (r, σ')) ∧ ∃ nt : Nat, σ.1 2 = iI nt ∧ nt ≤ 500 ∧ dc ≤ 4 * nt + 140 ∧ ds ≤ 32 * nt + 700) ∨ (o = 2 ∧ (∃ r, f_plan N σ x1 = some (r, σ')) ∧ ∃ nt : Nat, σ.1 2 = iI nt ∧ nt ≤ 500 ∧ dc ≤ 4 * nt + 180 ∧ ds ≤ 32 * nt + 3400) ∨ (o = 3 ∧ (∃ r, f_fault N σ  = some (r, σ')) ∧ dc = 0 ∧ ds = 0) ∨ (o = 4 ∧ (∃ r, f_where N σ  = some (r, σ')) ∧ dc = 0 ∧ ds = 0) ∨ (o = 5 ∧ (∃ r, f_sink N σ x1 x2 = some (r, σ')) ∧ dc = 0 ∧ ds = 0) ∨ (o = 6 ∧ (∃ r, f_grip N σ x1 x2 = some (r, σ')) ∧ dc = 0 ∧ ds = 0) ∨ (o = 7 ∧ (∃ r, f_dead N σ x1 = some (r, σ')) ∧ dc = 0 ∧ ds = 0) ∨ (o = 8 ∧ (∃ r, f_map N σ x1 x2 = some (r, σ')) ∧ dc ≤ 6 ∧ ds ≤ 318) ∨ (o = 9 ∧ (∃ r, f_height N σ x1 x2 = some (r, σ')) ∧ dc = 0 ∧ ds = 0) ∨ (o = 10 ∧ (∃ r, f_ground N σ x1 x2 = some (r, σ')) ∧ dc = 0 ∧ ds = 0) ∨ (o = 11 ∧ (∃ r, f_doubt N σ x1 = some (r, σ')) ∧ dc ≤ 3 ∧ ds ≤ 21) ∨ (o = 12 ∧ (∃ r, f_weigh N σ x1 x2 x3 = some (r, σ')) ∧ dc = 0 ∧ ds = 0) ∨ (o = 13 ∧ (∃ r, f_told N σ x1 x2 = some (r, σ')) ∧ dc = 0 ∧ ds = 0) ∨ (o = 14 ∧ (∃ r, f_forget N σ x1 = some (r, σ')) ∧ dc = 0 ∧ ds = 0) ∨ (o = 15 ∧ (∃ r, f_of N σ x1 x2 = some (r, σ')) ∧ dc = 0 ∧ ds = 0) ∨ (o = 16 ∧ (∃ r, f_step N σ x1 x2 x3 x4 = some (r, σ')) ∧ dc = 0 ∧ ds = 0) ∨ (o = 17 ∧ (∃ r, f_worst N σ x1 x2 = some (r, σ')) ∧ dc ≤ 1 ∧ ds = 0) ∨ (o = 18 ∧ (∃ r, f_mean N σ x1 x2 (if x3 = 0 then 0 else 1) = some (r, σ')) ∧ dc ≤ 1 ∧ ds = 0) ∨ (o = 19 ∧ (∃ r, f_way N σ x1 x2 (if x3 = 0 then 0 else 1) = some (r, σ')) ∧ dc ≤ 1 ∧ ds = 0) ∨ (o = 20 ∧ (∃ r, f_truths N σ  = some (r, σ')) ∧ dc = 0 ∧ ds = 0) ∨ (o = 21 ∧ (∃ r, f_truth N σ x1 x2 = some (r, σ')) ∧ dc ≤ 1 ∧ ds ≤ 5) ∨ (o = 22 ∧ (∃ r, f_run N σ x1 x2 (if x3 = 0 then 0 else 1) x4 = some (r, σ')) ∧ dc ≤ 6002 ∧ ds ≤ 6005) ∨ (o = 23 ∧ (∃ r, f_led N σ x1 = some (r, σ')) ∧ dc ≤ 1 ∧ ds ≤ 6) ∨ (o = 24 ∧ (∃ r, f_regret N σ x1 x2 = some (r, σ')) ∧ ((dc ≤ 1 ∧ ds = 0) ∨ ∃ Tf tm, rgL σ x1 x2 Tf tm ∧ dc = 1 + zSum (fun t => 2 + (lSt 0 (Tf t + 1)).2.2) tm ∧ ds = zSum (fun t => 8 + (lSt 0 (Tf t + 1)).2.1) tm) ∧ (σ.1 34 = 0 → ds = 0)) ∨ (o = 25 ∧ (∃ r, f_worth N σ x1 x2 x3 (if x4 = 0 then 0 else 1) = some (r, σ')) ∧ dc ≤ 1 ∧ ds = 0) ∨ (o = 26 ∧ (∃ r, f_spared N σ x1 x2 x3 = some (r, σ')) ∧ dc ≤ 1 ∧ ds = 0) ∨ (o = 27 ∧ (∃ r, f_failing N σ x1 x2 x3 x4 = some (r, σ')) ∧ dc ≤ 486 ∧ ds ≤ 3159) ∨ (o = 28 ∧ (∃ r, f_first N σ x1 = some (r, σ')) ∧ dc = 0 ∧ ds = 0) ∨ (o = 29 ∧ (∃ r, f_costs N σ x1 x2 x3 = some (r, σ')) ∧ dc ≤ 486 ∧ ds ≤ 3159) ∨ (o = 30 ∧ (∃ r, f_dig N σ x1 x2 = some (r, σ')) ∧ dc = 0 ∧ ds = 0) ∨ (o = 31 ∧ (∃ r, f_out N σ  = some (r, σ')) ∧ dc ≤ 2 ∧ ds ≤ 15627) ∨ (o = 32 ∧ (∃ r, f_tryAt N σ x1 = some (r, σ')) ∧ dc ≤ 2 ∧ ds ≤ 15627) ∨ (o = 33 ∧ (∃ r, f_make N σ x1 x2 = some (r, σ')) ∧ dc = 0 ∧ ds = 0) ∨ (o = 34 ∧ (∃ r, f_count N σ x1 = some (r, σ')) ∧ dc = 0 ∧ ds = 0) ∨ (o = 35 ∧ (∃ r, f_trouble N σ  = some (r, σ')) ∧ dc = 0 ∧ ds = 0) ∨ ((∀ j : Nat, j ≤ 35 → o ≠ iI j) ∧ σ' = σ ∧ dc = 0 ∧ ds = 0)
theorem lg_self {x : Int64} : lg_cmp x x = 0 := (lg_cmp_eq x x).mpr rfl
section O1s
variable {N b : Nat} {g : uEnv} {A : pA} {ad sa : Nat → Nat} {u0 u U : UH} {ou sc L k n : Nat} {sx : Nat → Int32} {lab : Nat → Nat} {σ : MS}
theorem lw_cn (h : xSt b g A ad sa (qA g (ad 4) b u0 ou) U lab σ) : ∀ x, x < b → U.2.2 x = u0.2.2 x := by
  obtain ⟨bkv, mpv, ptv, hx, hI⟩ := h
  obtain ⟨-, -, -, -, hc, -⟩ := hI.2.2.2.2.2.2.2
  exact fun x hx => (hc x hx).2
theorem lw_len (hst : uStart b g u0 sc L sx) (h : xSt b g A ad sa (qA g (ad 4) b u0 ou) U lab σ) : uLen U sc 7 = some (iI L) := by
  obtain ⟨-, -, ⟨f, h1, h2⟩, -, -, -, -, -, -, -, -, hb⟩ := hst
  exact u_len ((lw_cn h sc (hb _ _ h1)).trans h1)
theorem lw_ld (hst : uStart b g u0 sc L sx) (hL : L ≤ 384) (h : xSt b g A ad sa (qA g (ad 4) b u0 ou) U lab σ) {j : Nat} (hj : j < L) : uLdI U sc 7 (iI j) = some (sx j) := by
  obtain ⟨-, -, ⟨f, h1, h2⟩, -, -, -, -, -, -, -, -, hb⟩ := hst
  rw [u_ldI ((lw_cn h sc (hb _ _ h1)).trans h1) (by omega) (by omega) (by omega), Int.toNat_natCast, h2 j hj]
theorem lw_lit (hst : uStart b g u0 sc L sx) (h : xSt b g A ad sa (qA g (ad 4) b u0 ou) U lab σ) : ∀ j < 52, pLit b U (g.2.1 j) (pTx j) := fun j hj => by
  have hE : tEn b g U := ⟨u0, sc, L, sx, hst, lw_cn h⟩
  obtain ⟨-, -, -, h4, -, -, -, -, -, -, -, hb⟩ := hst
  have e : ∃ z, gTx[j]? = some z := by
    have : j < gTx.length := by
      have : gTx.length = 52 := by decide
      omega
    exact ⟨gTx[j], List.getElem?_eq_getElem this⟩
  obtain ⟨z, ez⟩ := e
  have ep : pTx j = z.1 := by
    unfold pTx
    rw [ez]
    rfl
  obtain ⟨v, hh, f, e1, e2, e3⟩ := h4 j hj z ez
  have tx : ∀ j : Fin 52, (pTx j.1).length < 100 ∧ ∀ c ∈ pTx j.1, ∃ k : Fin 128, c = Int32.ofNat k.1 := by decide +kernel
  obtain ⟨t1, t2⟩ := tx ⟨j, hj⟩
  have t1 : (pTx j).length < 100 := t1
  have t2 : ∀ c ∈ pTx j, ∃ k : Fin 128, c = Int32.ofNat k.1 := t2
  refine ⟨hb _ _ e1, t1, v, hh, f, hb _ _ e2, (lw_cn h _ (hb _ _ e1)).trans e1, ?_, fun i hi => ?_⟩
  · rw [ep]
    exact (lw_cn h _ (hb _ _ e2)).trans e2
  · rw [ep] at hi t2 ⊢
    refine ⟨e3 i hi, ?_⟩
    have gd : z.1.getD i 0 = z.1[i] := by
      rw [List.getD_eq_getElem?_getD, List.getElem?_eq_getElem hi]
      rfl
    rw [gd]
    obtain ⟨k, hk⟩ := t2 _ (List.getElem_mem hi)
    exact ⟨k.1, k.2, hk⟩
theorem lw_rg0 {x y r : Int32} {U' : UH} {σ' : MS} {dc ds : Nat} (h : xSt b g A ad sa (qA g (ad 4) b u0 ou) U lab σ) (e1 : f_X1_regret N b g U (ad 0) x y = some (r, U')) (e3 : xStep b g A ad sa (qA g (ad 4) b u0 ou) U lab U' σ' dc ds) (h34 : σ.1 34 = 0) : ds = 0 := by
  rcases k_map (N := N) h with hno | ⟨bkv, ptv, lo, hi, a, al, rv, nm, B, dead, la, da, wa, v8, v9, v10, w, h', n, nd, hts, fl, dO, kn, dc', wg, hx, hI, hbk, vB, h7, h12, k34, -⟩
  · obtain ⟨ar0, -, -⟩ := k_are (N := N) (b := b) (g := g) (ad := ad) (x := x) (y := y) (k_is h)
    obtain ⟨U0, n1, lab0, -, -, -, n2⟩ := k_ref (N := N) (t := 1) (by decide) qA_ok h
    have e2 : f_X1_regret N b g U (ad 0) x y = some (-1, U0) := by
      unfold f_X1_regret
      rw [if_pos (k_is h), ar0 (hno x).1, q_uc, if_pos rfl, if_pos (k_is h), n1, q_uc]
    rw [e2] at e1
    obtain ⟨lab', -, -, -, e4⟩ := e3
    have : U0 = U' := by
      injection e1 with e1
      injection e1
    rw [← this] at e4
    omega
  · rw [h34] at k34
    exact absurd k34 (by decide)
theorem lw_a1 : iI (k : Int) + 1 = iI ((k + 1 : Nat) : Int) := by
  rw [show (1 : Int32) = iI 1 from rfl, i_add]
  rfl
theorem lw_a2 : iI (k : Int) + 2 = iI ((k + 2 : Nat) : Int) := by
  rw [show (2 : Int32) = iI 2 from rfl, i_add]
  rfl
theorem lw_a3 : iI (k : Int) + 3 = iI ((k + 3 : Nat) : Int) := by
  rw [show (3 : Int32) = iI 3 from rfl, i_add]
  rfl
theorem lw_a4 : iI (k : Int) + 4 = iI ((k + 4 : Nat) : Int) := by
  rw [show (4 : Int32) = iI 4 from rfl, i_add]
  rfl
theorem lw_a5 : iI (k : Int) + 5 = iI ((k + 5 : Nat) : Int) := by
  rw [show (5 : Int32) = iI 5 from rfl, i_add]
  rfl
theorem lw_a6 : iI (k : Int) + 6 = iI ((k + 6 : Nat) : Int) := by
  rw [show (6 : Int32) = iI 6 from rfl, i_add]
  rfl
end O1s
