/-! PLAIN: the class goes -/
theorem c_go24 {N b : Nat} {g : uEnv} {u0 : UH} {la da wa sa : Nat → Nat} {so ja bk cl a0 m0 ta t11 mi : Nat} {v8 v9 v10 : Value} {w h n nd ng go mean fd T : Nat} {hts : Nat → Int} {fl nb : Nat → Nat} {dO kn : Nat → Int} {wg Y : Nat → Nat → Nat} {BG : Nat → Nat → Nat → Nat} {s : Nat × Nat × Nat} (hk : kOk b sa) (hgo : go < n) (hm : mean = 0 ∨ mean = 1) (hW : wWd w h n nd ng go mean fl nb dO kn wg BG Y fd) (hs : wOk n nd kn wg Y s) (hs0 : s.2.2 = 0) (hT1 : (wIt w h nd go mean fl nb dO wg BG Y fd s T).1 = go) (hT2 : ∀ i, i < T → (wIt w h nd go mean fl nb dO wg BG Y fd s i).1 ≠ go) (hT : T ≤ 600) (hN : 101 ≤ N) (h11 : g.1 11 = some t11) (h20 : g.1 20 = some mi) (hb : b ≤ cl) (hbu : b ≤ u0.1) (n4 : la 4 ≠ cl) (n5 : m0 ≠ 0 → la 5 ≠ a0) (l5 : la 5 < u0.1) : ∀ (m i : Nat) (u : UH) (V : Nat → Int64) (D P : Nat → Int32) (arr : Nat), i ≤ T → T < i + m → cCx u g la da wa sa so ja bk v8 v9 v10 w h n nd ng go mean hts fl nb dO kn wg BG → kH u sa V D P = u → cInv n Y V D → gLs b g u0 sa cl a0 m0 (i + 1) (fun j => (wIt w h nd go mean fl nb dO wg BG Y fd s j).1) u arr → zInt g u → (∃ f : Nat → Int32, u.2.2 ta = some (.inl (0, 5, .inl f)) ∧ ∀ e, e < nd → f e = iI (zTg wg fd e)) → ∃ (u' : UH) (V' : Nat → Int64) (D' P' : Nat → Int32) (arr' : Nat), f_X2_goes_24 N b g so m u (some ta) (some cl) (iI (wIt w h nd go mean fl nb dO wg BG Y fd s i).1) (iI (wIt w h nd go mean fl nb dO wg BG Y fd s i).2.1) (iI (wIt w h nd go mean fl nb dO wg BG Y fd s i).2.2) = some (iI (wIt w h nd go mean fl nb dO wg BG Y fd s T).2.2, u') ∧ cCx u' g la da wa sa so ja bk v8 v9 v10 w h n nd ng go mean hts fl nb dO kn wg BG ∧ kH u' sa V' D' P' = u' ∧ cInv n Y V' D' ∧ gLs b g u0 sa cl a0 m0 (T + 1) (fun j => (wIt w h nd go mean fl nb dO wg BG Y fd s j).1) u' arr' ∧ zInt g u' := by
  have hW' := hW
  obtain ⟨hS, ⟨hw, hh, hn, hnd⟩, h3, hwt, hdO, hfl, hkd, hBG, hfd, hfc, hff⟩ := hW'
  have m4 : w * h ≤ 10 * 10 := Nat.mul_le_mul hw.2 hh.2
  intro m
  induction m with
  | zero => intro i u V D P arr h1 h2; omega
  | succ m ih =>
    intro i u V D P arr h1 h2 hX kid hI hG hZ hta
    obtain ⟨ok, sb⟩ := w_ok hW hs i
    have ok' := ok
    obtain ⟨o1, o2, o3, o4⟩ := ok'
    have hX' := hX
    obtain ⟨hO, hL, hi, -⟩ := hX'
    rw [f_X2_goes_24]
    unfold f_X2_goes_93
    rw [v_gi hO (k := 1) rfl, p_bs]
    by_cases hi' : i = T
    · subst hi'
      refine ⟨u, V, D, P, arr, ?_, hX, kid, hI, hG, hZ⟩
      rw [hT1, if_pos rfl]
    · have hg := hT2 i (by omega)
      obtain ⟨f, f1, f2⟩ := hta
      have nxt := w_step hW ok hg
      have e1 : wIt w h nd go mean fl nb dO wg BG Y fd s (i + 1) = wNx w h nd go mean fl nb dO wg BG Y fd (wIt w h nd go mean fl nb dO wg BG Y fd s i) := rfl
      have ihh := ih (i + 1)
      rw [e1] at ihh
      have hp : ∀ j, (wIt w h nd go mean fl nb dO wg BG Y fd s j).1 < 100 := fun j => by
        have := (w_ok hW hs j).1.1
        omega
      have e1p : (wIt w h nd go mean fl nb dO wg BG Y fd s (i + 1)).1 = (wNx w h nd go mean fl nb dO wg BG Y fd (wIt w h nd go mean fl nb dO wg BG Y fd s i)).1 := rfl
      generalize hst : wIt w h nd go mean fl nb dO wg BG Y fd s i = st at *
      have t1 : i + 1 ≤ T := by omega
      have t2 : T < i + 1 + m := by omega
      have ng : ¬ iI (st.1 : Int) = iI (go : Int) := by
        rw [j_eq (by omega) (by omega) (by omega) (by omega)]
        omega
      have t3 : i + 1 < 1300 := by omega
      obtain ⟨c1, c2, c3, c4, y4, ⟨k0, kb⟩, d, d1, d2, d3, -, d5, d6⟩ := nxt
      rw [d5] at ihh e1p
      have lk := c_look (N := N) (b := b) (c := st.1) (cd := st.2.1) hX hfc hff f1 f2 o2 o1 (by omega)
      have lk' : f_X2_look N b g u so (iI st.1) (iI st.2.1) (some ta) = some (iI (wCd nd nb fd st), u) := lk
      obtain ⟨V1, D1, P1, fo, b1, b2, b3, -⟩ := c_best (N := N) (b := b) (V := V) (D := D) (P := P) hX hk hgo hm hS hN c1 c2 o1 c3 hI
      rw [kid] at b1
      obtain ⟨r, y, q1, q2, q3, q4⟩ := b3 c4
      have q4 : y = wWa w h nd mean fl nb dO wg BG Y fd st := q4
      subst q4
      have hX1 := hX.kH (V := V1) (D := D1) (P := P1) hk
      have hX1' := hX1
      obtain ⟨hO1, hL1, hi1, ⟨cf, g1, g2⟩, -⟩ := hX1'
      have ct := c_cost (N := N) (b := b) (BG := BG) (cd := wCd nd nb fd st) (c := st.1) hO1 hL1 g1 g2 hX.2.2.2.2.2.1 hfl hkd c1 o1 q2 q3 ((hS _ c1 c2).2.2.2 st.1 _ o1 q3 c3) (by omega)
      have ek : iI (cN (zK w h fl dO (fun e k => zKd (wg e) k) BG (wCd nd nb fd st) st.1 (wWa w h nd mean fl nb dO wg BG Y fd st))) = iI (zK w h fl dO (fun e k => zKd (wg e) k) BG (wCd nd nb fd st) st.1 (wWa w h nd mean fl nb dO wg BG Y fd st) : Int) := congrArg iI (if_neg k0)
      rw [ek] at ct
      have hG1 := hG.kH (V := V1) (D := D1) (P := P1) hi
      have hZ1 : zInt g (kH u sa V1 D1 P1) := fun k hk => kH_r hi (hZ k hk)
      obtain ⟨u2, arr2, a1, a2, a3, a4⟩ := g_add (N := N) hG1 hZ1 (fun j hj => hp j) hb hbu h20 t3
      have a1 : f_J2_add N b g (kH u sa V1 D1 P1) cl (some (g.2.2 ((wIt w h nd go mean fl nb dO wg BG Y fd s (i + 1)).1 + 128))) = some (1, u2) := a1
      rw [e1p] at a1
      have a1 : f_J2_add N b g (kH u sa V1 D1 P1) cl (some (g.2.2 (d + 128))) = some (1, u2) := a1
      obtain ⟨-, ⟨mc, xs, ⟨x1, x2, x3⟩, -⟩, -, -, -, h6, -⟩ := hG1
      have n5' : i + 1 < (lSt m0 (i + 1)).1 → la 5 ≠ arr := fun q => by
        rcases h6 with ⟨q1, q2⟩ | q1
        · rw [q1]
          exact n5 (by omega)
        · omega
      have hX2 := hX1.keep a3 x1 x2 n4 n5'
      have kid2 : kH u2 sa V1 D1 P1 = u2 := kH_id (a3.l x1 x2 kH_4 (by decide)) (a3.l x1 x2 (kH_5 hk) (by decide)) (a3.l x1 x2 (kH_6 hk) (by decide))
      obtain ⟨u', V', D', P', arr', z1, z2⟩ := ihh u2 V1 D1 P1 arr2 t1 t2 hX2 kid2 b2 a2 (fun k hk => a3.r x1 x2 (hZ1 k hk) (by decide)) ⟨f, a3.l x1 x2 (kH_l hi f1 (by decide) (by decide)) (by decide), f2⟩
      refine ⟨u', V', D', P', arr', ?_, z2⟩
      rw [if_neg ng, if_pos (v_is hO), lk', q_uc, if_pos (v_is hO), b1, q_uc, if_pos (v_is hO1), q1, ct, q_uc, i_add, p_let, v_gr hO1 (k := 0) rfl, p_bs, p_bs, if_pos (v_is hL1.1), b_X14 hL1.1 rfl rfl q2 hw hh (hn ▸ o1), q_uc, d2, c_vof h11 (by have := d1; omega), q_uc, p_bs, if_pos (v_is x1), a1, q_uc]
      exact z1
