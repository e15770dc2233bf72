/-! PLAIN: the class's begin: all cells -/
theorem b_35 {N b lo hi : Nat} {u : UH} {la da wa sa : Nat → Nat} {g : uEnv} {so go bk al : Nat} {jd : Value} {rv : Int32} {nm : Nat → Nat} {B : bBk} {dead : Int} {v8 v9 v10 : Value} {w h n nd : Nat} {hts : Nat → Int} {fl : Nat → Nat} {dO kn : Nat → Int} {wg : Nat → Nat → Nat} {dc : Nat → Nat} (hk : bOk2 b lo hi la sa) (hi' : bIs u la sa) (hO : vSo u so (la 0) go n jd sa) (hL : vLd u g la da wa bk v8 v9 v10 w h n nd hts fl dO kn wg) (vB : vBk u b lo hi bk al rv nm B) (hB : bOk B) (hdr : 0 ≤ dead ∧ dead ≤ 5) (hdc : ∀ c, c < n → dO c ≠ -1 → dc (dO c).toNat = c) (hcd : ∀ e, e < nd → dc e < n ∧ dO (dc e) = (e : Int)) (hN : 101 ≤ N) : ∀ (m c : Nat) (S C : Nat → Int32) (w8 w9 w10 : Value), c ≤ n → n < c + m → ∃ (S' C' : Nat → Int32) (u8 u9 u10 : Value), f_X2_begin_35 N b g so m (bH u la sa (bF la bk w h w8 w9 w10) S C) (some (la 0)) (iI dead) (iI c) = some (some so, bH u la sa (bF la bk w h u8 u9 u10) S' C') ∧ (∀ c', c ≤ c' → c' < n → S' c' = iI (zNb w h dc c' nd) ∧ ∀ y q, y < 4 → q < B.2.1 → C' ((4 * c' + y) * 8 + q) = iI (cN (zBG B dead hts w h c' y q))) ∧ (∀ i, i < c → S' i = S i) ∧ ∀ i, i < 4 * c * 8 → C' i = C i := by
  have b5 := hB.2.2.2.2.2.1
  have hn := hL.2.2.2.1
  have m4 : w * h ≤ 10 * 10 := Nat.mul_le_mul hL.2.1.2 hL.2.2.1.2
  intro m
  induction m with
  | zero => intro c S C w8 w9 w10 h1 h2; omega
  | succ m ih =>
    intro c S C w8 w9 w10 h1 h2
    have hOb : vSo (bH u la sa (bF la bk w h w8 w9 w10) S C) so (la 0) go n jd sa := bH_r hi' hO (by decide)
    have hLb := hL.bH (S := S) (C := C) (w8 := w8) (w9 := w9) (w10 := w10) hk hi'
    rw [f_X2_begin_35, v_gi hOb (k := 2) rfl, p_bs]
    by_cases hc : n ≤ c
    · refine ⟨S, C, w8, w9, w10, ?_, fun c' d1 d2 => by omega, fun i _ => rfl, fun i _ => rfl⟩
      rw [p_le (by omega) (by omega) (by omega) (by omega) (by omega)]
    · have se := c_sees (N := N) (b := b) (c := c) (dc := dc) hLb (by omega) hdc hcd (by omega)
      have hLs := hL.bH (S := upd S c (iI (zNb w h dc c nd))) (C := C) (w8 := w8) (w9 := w9) (w10 := w10) hk hi'
      have l0s := hLs.1
      obtain ⟨-, -, -, -, -, -, -, -, -, ⟨yf, wr, y1, y2⟩, -⟩ := hLs
      obtain ⟨C1, a8, a9, a10, r1, r2, r3⟩ := b_71 (N := N) (S := upd S c (iI (zNb w h dc c nd))) (k35 := f_X2_begin_35 N b g so m) hk hi' hO hL vB hB (by omega : c < n) hdr (by omega) N 0 C w8 w9 w10 (by omega) (by omega)
      obtain ⟨S2, C2, d8, d9, d10, s1, s2, s3, s4⟩ := ih (c + 1) (upd S c (iI (zNb w h dc c nd))) C1 a8 a9 a10 (by omega) (by omega)
      refine ⟨S2, C2, d8, d9, d10, ?_, fun c' e1 e2 => ?_, fun i hi'' => ?_, fun i hi'' => ?_⟩
      · rw [n_le (by omega) (by omega) (by omega) (by omega) (by omega), v_gr hOb (k := 7) rfl, p_bs, p_bs, if_pos (v_is hLb.1), se, q_uc, p_bs, b_st7 hk (by omega), p_bs, v_gr l0s (k := 7) rfl, p_bs, p_bs, u_len y1, p_bs]
        exact r1.trans s1
      · by_cases e : c' = c
        · subst e
          refine ⟨(s3 c' (by omega)).trans (if_pos rfl), fun y q hy hq => ?_⟩
          rw [s4 _ (by omega)]
          exact r2 y q (by omega) hy hq
        · exact s2 c' (by omega) e2
      · rw [s3 i (by omega)]
        exact if_neg (by omega)
      · rw [s4 i (by omega), r3 i (by omega)]
