/-! PLAIN: the class's begin: costs of all steps -/
theorem b_st8 {b lo hi : Nat} {u : UH} {la sa : Nat → Nat} {F : List Value} {S C : Nat → Int32} {k : Nat} {x : Int32} (hk : bOk2 b lo hi la sa) (h2 : k < 3200) : uStI b (bH u la sa F S C) (sa 8) 0 (iI (k : Int)) x = some (bH u la sa F S (upd C k x)) := by
  rw [u_stI (bH_8 hk) hk.1.2.2 (by omega) (by omega) (by omega), bH_set8 hk]
  rfl
theorem b_st7 {b lo hi : Nat} {u : UH} {la sa : Nat → Nat} {F : List Value} {S C : Nat → Int32} {k : Nat} {x : Int32} (hk : bOk2 b lo hi la sa) (h2 : k < 100) : uStI b (bH u la sa F S C) (sa 7) 0 (iI (k : Int)) x = some (bH u la sa F (upd S k x) C) := by
  rw [u_stI (bH_7 hk) hk.1.2.1 (by omega) (by omega) (by omega), bH_set7 hk]
  rfl
theorem b_88 {N b lo hi : Nat} {u : UH} {la da wa sa : Nat → Nat} {S : Nat → Int32} {g : uEnv} {so go bk al c y r : Nat} {jd : Value} {rv : Int32} {nm : Nat → Nat} {B : bBk} {dead : Int} {v8 v9 v10 : Value} {w h n nd : Nat} {hts : Nat → Int} {fl : Nat → Nat} {dO kn : Nat → Int} {wg : Nat → Nat → Nat} {k35 : UH → Option Nat → Int32 → Int32 → Option (Option Nat × UH)} {k71 : UH → Option Nat → Int32 → Int32 → Option Nat → Int32 → Int32 → Option (Option Nat × UH)} (hk : bOk2 b lo hi la sa) (hi' : bIs u la sa) (hO : vSo u so (la 0) go n jd sa) (hL : vLd u g la da wa bk v8 v9 v10 w h n nd hts fl dO kn wg) (vB : vBk u b lo hi bk al rv nm B) (hB : bOk B) (hr : uWay g r = some y) (hy : y < 4) (hc : c < n) (hdr : 0 ≤ dead ∧ dead ≤ 5) (hN : 92 ≤ N) : ∀ (m q : Nat) (C : Nat → Int32) (w8 w9 w10 : Value), q ≤ B.2.1 → B.2.1 < q + m → ∃ (C' : Nat → Int32) (u8 u9 u10 : Value), f_X2_begin_88 N b g so k35 k71 m (bH u la sa (bF la bk w h w8 w9 w10) S C) (some (la 0)) (iI dead) (iI c) (some (la 6)) (iI 4) (iI y) (some r) (iI q) = k71 (bH u la sa (bF la bk w h u8 u9 u10) S C') (some (la 0)) (iI dead) (iI c) (some (la 6)) (iI 4) (iI ((y + 1 : Nat) : Int)) ∧ (∀ q', q ≤ q' → q' < B.2.1 → C' ((4 * c + y) * 8 + q') = iI (cN (zBG B dead hts w h c y q'))) ∧ ∀ i, ¬ ((4 * c + y) * 8 + q ≤ i ∧ i < (4 * c + y) * 8 + 8) → C' i = C i := by
  have b5 := hB.2.2.2.2.2.1
  have hn := hL.2.2.2.1
  have m4 : w * h ≤ 10 * 10 := Nat.mul_le_mul hL.2.1.2 hL.2.2.1.2
  intro m
  induction m with
  | zero => intro q C w8 w9 w10 h1 h2; omega
  | succ m ih =>
    intro q C w8 w9 w10 h1 h2
    have hLb := hL.bH (S := S) (C := C) (w8 := w8) (w9 := w9) (w10 := w10) hk hi'
    have l0 := hLb.1
    obtain ⟨gl, arr, mm, mc, ga, xs, a1, a2, a3, k1, k2, k3⟩ := vB.same (bH_same (F := bF la bk w h w8 w9 w10) (S := S) (C := C) hk)
    have ey : iI (y : Int) + 1 = iI ((y + 1 : Nat) : Int) := by
      rw [j1, i_add]
      rfl
    rw [f_X2_begin_88]
    unfold f_X2_begin_138
    rw [p_bs, v_gr l0 (k := 0) rfl, p_bs, p_bs, v_gr k1 (k := 0) rfl, p_bs, p_bs, if_pos (v_is k2.1), l_size k2, q_uc]
    by_cases hq : B.2.1 ≤ q
    · refine ⟨C, w8, w9, w10, ?_, fun q' d1 d2 => by omega, fun i _ => rfl⟩
      rw [p_le (by omega) (by omega) (by omega) (by omega) (by omega), p_let, ey]
    · have eq : iI (q : Int) + 1 = iI ((q + 1 : Nat) : Int) := by
        rw [j1, i_add]
        rfl
      have hOb : vSo (bH u la sa (bF la bk w h w8 w9 w10) S C) so (la 0) go n jd sa := bH_r hi' hO (by decide)
      have wy := b_why (N := N) (S := S) (C := C) (w8 := w8) (w9 := w9) (w10 := w10) hk hi' hL vB hB hr hc (by omega : q < B.2.1) hdr hN
      have bi := bWhy_in (B := B) (dead := dead) (hts := hts) (w := w) (h := h) (c := c) (way := y) (d := q)
      have fin : ∀ (x : Int32) (z8 z9 z10 : Value), x = iI (cN (zBG B dead hts w h c y q)) → ∃ (C' : Nat → Int32) (u8 u9 u10 : Value), f_X2_begin_88 N b g so k35 k71 m (bH u la sa (bF la bk w h z8 z9 z10) S (upd C ((4 * c + y) * 8 + q) x)) (some (la 0)) (iI dead) (iI c) (some (la 6)) (iI 4) (iI y) (some r) (iI ((q + 1 : Nat) : Int)) = k71 (bH u la sa (bF la bk w h u8 u9 u10) S C') (some (la 0)) (iI dead) (iI c) (some (la 6)) (iI 4) (iI ((y + 1 : Nat) : Int)) ∧ (∀ q', q ≤ q' → q' < B.2.1 → C' ((4 * c + y) * 8 + q') = iI (cN (zBG B dead hts w h c y q'))) ∧ ∀ i, ¬ ((4 * c + y) * 8 + q ≤ i ∧ i < (4 * c + y) * 8 + 8) → C' i = C i := fun x z8 z9 z10 hx => by
        obtain ⟨C', u8, u9, u10, r1, r2, r3⟩ := ih (q + 1) (upd C ((4 * c + y) * 8 + q) x) z8 z9 z10 (by omega) (by omega)
        refine ⟨C', u8, u9, u10, r1, fun q' d1 d2 => ?_, fun i hi'' => ?_⟩
        · by_cases e : q' = q
          · rw [e, r3 _ (by omega)]
            exact (if_pos rfl).trans hx
          · exact r2 q' (by omega) d2
        · rw [r3 i (by omega)]
          exact if_neg (by omega)
      rw [n_le (by omega) (by omega) (by omega) (by omega) (by omega), v_gr hOb (k := 8) rfl, p_bs, c_at hr hy, q_uc, if_pos (v_is l0), wy, q_uc]
      by_cases h0 : bWhy B dead hts w h c y q = 0
      · have cb := bCost_b hB hdr (by omega) h0
        have n3 : bN3 B dead hts w h c y q = (bNeed B dead (bRise hts w h c y) q, bSl (bSlipOf B dead (bNeed B dead (bRise hts w h c y) q) q), bCost B dead hts w h c y q) := if_pos h0
        rw [n3, if_pos (show iI (bWhy B dead hts w h c y q) = 0 by rw [h0]; rfl), v_gi bH_0 (k := 10) rfl, p_bs, p_bs, b_st8 hk (by omega), p_bs, p_let, eq]
        refine fin _ _ _ _ ?_
        unfold zBG cN
        rw [if_pos h0, if_neg (by omega)]
        show iI (bCost B dead hts w h c y q) = iI (((bCost B dead hts w h c y q).toNat : Nat) : Int)
        congr 1
        omega
      · rw [if_neg (show ¬ iI (bWhy B dead hts w h c y q) = 0 by rw [j0, j_eq (by omega) (by omega) (by omega) (by omega)]; exact h0), p_bs, b_st8 hk (by omega), p_bs, p_let, eq]
        refine fin _ _ _ _ ?_
        unfold zBG
        rw [if_neg h0]
        rfl
theorem b_71 {N b lo hi : Nat} {u : UH} {la da wa sa : Nat → Nat} {S : Nat → Int32} {g : uEnv} {so go bk al c : Nat} {jd : Value} {rv : Int32} {nm : Nat → Nat} {B : bBk} {dead : Int} {v8 v9 v10 : Value} {w h n nd : Nat} {hts : Nat → Int} {fl : Nat → Nat} {dO kn : Nat → Int} {wg : Nat → Nat → Nat} {k35 : UH → Option Nat → Int32 → Int32 → Option (Option Nat × UH)} (hk : bOk2 b lo hi la sa) (hi' : bIs u la sa) (hO : vSo u so (la 0) go n jd sa) (hL : vLd u g la da wa bk v8 v9 v10 w h n nd hts fl dO kn wg) (vB : vBk u b lo hi bk al rv nm B) (hB : bOk B) (hc : c < n) (hdr : 0 ≤ dead ∧ dead ≤ 5) (hN : 92 ≤ N) : ∀ (m y : Nat) (C : Nat → Int32) (w8 w9 w10 : Value), y ≤ 4 → 4 < y + m → ∃ (C' : Nat → Int32) (u8 u9 u10 : Value), f_X2_begin_71 N b g so k35 m (bH u la sa (bF la bk w h w8 w9 w10) S C) (some (la 0)) (iI dead) (iI c) (some (la 6)) (iI 4) (iI y) = k35 (bH u la sa (bF la bk w h u8 u9 u10) S C') (some (la 0)) (iI dead) (iI ((c + 1 : Nat) : Int)) ∧ (∀ y' q', y ≤ y' → y' < 4 → q' < B.2.1 → C' ((4 * c + y') * 8 + q') = iI (cN (zBG B dead hts w h c y' q'))) ∧ ∀ i, ¬ ((4 * c + y) * 8 ≤ i ∧ i < (4 * c + 4) * 8) → C' i = C i := by
  have b5 := hB.2.2.2.2.2.1
  intro m
  induction m with
  | zero => intro y C w8 w9 w10 h1 h2; omega
  | succ m ih =>
    intro y C w8 w9 w10 h1 h2
    have ec : iI (c : Int) + 1 = iI ((c + 1 : Nat) : Int) := by
      rw [j1, i_add]
      rfl
    rw [f_X2_begin_71]
    by_cases hy : y = 4
    · subst hy
      refine ⟨C, w8, w9, w10, ?_, fun y' q' d1 d2 => by omega, fun i _ => rfl⟩
      rw [if_pos (show iI (4 : Int) ≤ iI ((4 : Nat) : Int) from Int32.le_refl _), p_let, ec]
    · have hLb := hL.bH (S := S) (C := C) (w8 := w8) (w9 := w9) (w10 := w10) hk hi'
      obtain ⟨-, -, -, -, -, -, -, -, -, ⟨yf, wr, y1, y2⟩, -⟩ := hLb
      obtain ⟨p1, p2⟩ := y2 y (by omega)
      have Ly : uLdR (bH u la sa (bF la bk w h w8 w9 w10) S C) (la 6) 5 (iI (y : Int)) = some (some (wr y)) := by
        rw [u_ldR y1 (by omega) (by omega) (by omega)]
        exact congrArg some p1
      obtain ⟨C1, a8, a9, a10, r1, r2, r3⟩ := b_88 (N := N) (S := S) (k35 := k35) (k71 := f_X2_begin_71 N b g so k35 m) hk hi' hO hL vB hB p2 (by omega : y < 4) hc hdr hN N 0 C w8 w9 w10 (by omega) (by omega)
      obtain ⟨C2, d8, d9, d10, s1, s2, s3⟩ := ih (y + 1) C1 a8 a9 a10 (by omega) (by omega)
      refine ⟨C2, d8, d9, d10, ?_, fun y' q' e1 e2 e3 => ?_, fun i hi'' => ?_⟩
      · rw [n_le (by omega) (by omega) (by omega) (by omega) (by omega), p_bs, Ly, p_bs, show (0 : Int32) = iI ((0 : Nat) : Int) from rfl, r1]
        exact s1
      · by_cases e : y' = y
        · rw [e, s3 _ (by omega)]
          exact r2 q' (by omega) e3
        · exact s2 y' q' (by omega) e2 e3
      · rw [s3 i (by omega), r3 i (by omega)]
